/-! THE PLAIN LAW: the component settles, digs -/
theorem nxt_none {ns : Nat} {sp : Nat → Int32} {t : TT} (h : ∀ j, j < ns → frm ns sp t j = none) : nxt ns sp t 0 = none := by
  unfold nxt
  have : ∀ r i, i + r = ns → lp (fun j (_ : Unit) => if (frm ns sp t j).isSome then .inr (some j) else .inl ()) (fun _ => none) r i () = (none : Option Nat) := by
    intro r
    induction r with
    | zero => intro i _; rfl
    | succ r ih =>
      intro i hi
      simp only [lp]
      rw [h i (by omega)]
      exact ih (i + 1) (by omega)
  exact this _ 0 (by omega)
theorem nxt_some {ns : Nat} {sp : Nat → Int32} {t : TT} {s o : Nat} (h : ∀ j, j < s → frm ns sp t j = none) (hs : s < ns) (ho : frm ns sp t s = some o) : nxt ns sp t 0 = some s := by
  unfold nxt
  have : ∀ r i, i + r = ns → i ≤ s → lp (fun j (_ : Unit) => if (frm ns sp t j).isSome then .inr (some j) else .inl ()) (fun _ => none) r i () = some s := by
    intro r
    induction r with
    | zero => intro i h1 h2; omega
    | succ r ih =>
      intro i hi his
      simp only [lp]
      by_cases e : i = s
      · subst e
        rw [ho]
        rfl
      · rw [h i (by omega)]
        exact ih (i + 1) (by omega) (by omega)
  exact this _ 0 (by omega) (by omega)
theorem upd_self (f : Nat → Int32) (k : Nat) : upd f k (f k) = f := by
  funext j
  unfold upd
  split
  · next e => rw [e]
  · rfl
theorem adds_0 (t : TT) : adds t 0 = t := by
  unfold adds
  rw [Int32.add_zero, upd_self]
theorem upd_upd (f : Nat → Int32) (k : Nat) (z w : Int32) : upd (upd f k z) k w = upd f k w := by
  funext j
  unfold upd
  split <;> rfl
section SS
variable {G : sd_G} {n : Nat} {ρ : Nat → Option Nat} {K : Nat → Option sd_E} {ad F : Nat → Nat} {q : Nat → Nat} {x : Nat → Nat → Int32} {mc : Nat → Int32} {em cs : Nat → Bool} {t : TT} {b : Nat × Nat}
/-- one slide, as the component makes it -/
theorem sld_eq {u : TT} {c : Int32} {o s : Nat} (hne : s ≠ o) : numT (putT (looT (lowT (adds u c) o) (topC u o)) s (topC u o)) 3 ((adds u c).1 3 + 1) = adds (sld u o s) (c + 1) := by
  unfold numT putT looT lowT adds sld
  simp only [updN_ne hne, upd_same, upd_upd, Int32.add_assoc]
theorem s_settle {Q : Unit → sd_H → Nat × Nat → Prop} (A : sA G n ρ K ad F q x em cs t) (hb : rq (q 20) b em) (kk : ∀ n' ρ' ad' mc' em' b', xt n ρ ad em n' ρ' ad' em' → bd (q 20) b em b' em' → sA G n' ρ' K ad' F q x em' cs (setl (q 20) (x 31) t) → Q () (hSo G n' ρ' K ad' F q x mc' em' (setl (q 20) (x 31) t)) b') : wp (fX3_settle G (ad 0)) (hSo G n ρ K ad F q x mc em t) b Q := by
  have q8 := A.2.2.2.1.1.2
  have pl := pot_le (c := 0) (q 20) (fun s hs => A.2.2.2.2.2.2.1 s hs)
  unfold fX3_settle
  refine wp_loop (F := fun k s => fX3_settle_b2 G k s.1 s.2) (fun m s h b' => ∃ (to : Nat) (a : TT × Int32) (n' : Nat) (ρ' : Nat → Option Nat) (ad' : Nat → Nat) (mc' : Nat → Int32) (em' : Nat → Bool) (r : Nat), s = (ad 0, n3 to) ∧ to ≤ q 20 ∧ m = pot (q 20) a.1.2.1 * 9 + (q 20 - to) ∧ h = hSo G n' ρ' K ad' F q x mc' em' (adds a.1 a.2) ∧ sA G n' ρ' K ad' F q x em' cs (adds a.1 a.2) ∧ xt n ρ ad em n' ρ' ad' em' ∧ bd (q 20) b em b' em' ∧ (∀ j, j < to → frm (q 20) (x 31) a.1 j = none) ∧ pot (q 20) a.1.2.1 < r ∧ okT (q 20) (q 26) a.1 ∧ rn (stp (q 20) (x 31)) (fun a => a) r a = stl (q 20) (x 31) t) ?_ sd_FU (pot (q 20) t.2.1 * 9 + (q 20 - 0)) _ _ b (by unfold sd_FU; omega) ⟨0, (t, 0), n, ρ, ad, mc, em, 801, rfl, Nat.zero_le _, rfl, by rw [adds_0], by rw [adds_0]; exact A, xt.refl, bd.refl, fun j hj => by omega, by show pot (q 20) t.2.1 < 801; omega, A.2.2.2.2, rfl⟩
  rintro k m s h b' ⟨to, a, n', ρ', ad', mc', em', r, e1, e2, e3, e4, A', X, B, e5, e6, ok', e7⟩ ih
  subst e1
  subst e4
  obtain ⟨u, c⟩ := a
  simp only at e3 A' e5 e6 ok' e7 ⊢
  have had0 : ad' 0 = ad 0 := X.ad (by omega)
  rw [← had0]
  unfold fX3_settle_b2
  by_cases h1 : q 20 ≤ to
  · have hto : to = q 20 := by omega
    simp (disch := omega) only [↓wp_bnd, ↓wp_ret, ↓wp_ite, ↓reduceIte, s_rd A', n3_le, h1]
    have hn := nxt_none (ns := q 20) (sp := x 31) (t := u) (fun j hj => e5 j (by omega))
    have hs : stp (q 20) (x 31) (u, c) = .inr (u, c) := by
      unfold stp
      rw [hn]
    have : stl (q 20) (x 31) t = (u, c) := by
      rw [← e7]
      cases r with
      | zero => omega
      | succ r =>
        simp only [rn, hs]
    have hS : setl (q 20) (x 31) t = adds u c := by
      unfold setl
      rw [this]
    have := kk n' ρ' ad' mc' em' b' X B (by rw [hS]; exact A')
    rw [hS] at this
    exact this
  · have hlt : to < q 20 := by omega
    have fr : frm (q 20) (x 31) (adds u c) to = frm (q 20) (x 31) u to := rfl
    simp (disch := omega) only [↓wp_bnd, ↓wp_ret, ↓wp_ite, ↓reduceIte, s_rd A', n3_le, h1, s_sliding A' hlt, fr]
    cases hf : frm (q 20) (x 31) u to with
    | none =>
      simp only [↓reduceIte]
      rw [show n3 to + 1 = n3 (to + 1) from n3_add to 1, had0]
      refine ih (m - 1) _ _ _ (by omega) ⟨to + 1, (u, c), n', ρ', ad', mc', em', r, rfl, by omega, by show m - 1 = pot (q 20) u.2.1 * 9 + (q 20 - (to + 1)); omega, rfl, A', X, B, fun j hj => ?_, e6, ok', e7⟩
      by_cases e : j = to
      · subst e; exact hf
      · exact e5 j (by omega)
    | some o =>
      obtain ⟨c1, c2⟩ := frm_of hf
      obtain ⟨c3, c4, -, -⟩ := canS_of c1
      have hne : to ≠ o := by omega
      have o10 := ok'.2.2.1 o c3
      have htop : topC u o < 80 := ok'.top c3 (by omega)
      have hcs : cs (topC u o) = true := A'.2.1.1 o (u.2.1 o - 1) c3 (by show u.2.1 o - 1 < u.2.1 o; omega)
      have h1o : 1 ≤ (adds u c).2.1 o := by show 1 ≤ u.2.1 o; omega
      have tp : topC (adds u c) o = topC u o := rfl
      have ho1 : ¬ (n3 o = -1) := by rw [n3_neg1 (by omega)]; exact id
      have hs0 : n3 ((adds u c).2.1 o) - 1 = n3 ((adds u c).2.1 o - 1) := n3_sub h1o
      simp only [ho1, ↓reduceIte]
      have A1 := sA_low A' c3
      have A2 := sA_loo (c := topC u o) A1
      simp (disch := omega) only [↓wp_bnd, ↓wp_ret, ↓wp_ite, ↓reduceIte, s_rd A', s_top A' c3 h1o, s_isS A', s_seat A' c3, al_rd (s_list A' c3), s_height A' c3, hs0, s_remove A' c3 h1o, tp]
      rw [s_putLoose A1 htop hcs]
      simp (disch := omega) only [↓wp_bnd, ↓wp_ret, ↓wp_ite, ↓reduceIte, s_rd A2, s_isS A2, s_seat A2 hlt, al_rd (s_list A2 hlt)]
      have ht10 : (looT (lowT (adds u c) o) (topC u o)).2.1 to < 10 := by
        show updN u.2.1 o (u.2.1 o - 1) to < 10
        rw [updN_ne hne]
        omega
      refine s_add A2 hlt ht10 htop hcs (bd_rq B hb) (fun n2 ρ2 ad2 mc2 em2 b2 X2 B2 A3 => ?_)
      have had2 : ad2 0 = ad' 0 := X2.ad (by omega)
      rw [← had2]
      simp (disch := omega) only [↓wp_bnd, ↓wp_ret, ↓wp_ite, ↓reduceIte, s_rd A3]
      rw [s_putN (i := 3) A3 (by omega)]
      have e9 := sld_eq (u := u) (c := c) hne
      have e10 : (putT (looT (lowT (adds u c) o) (topC u o)) to (topC u o)).1 3 = (adds u c).1 3 := rfl
      rw [e10, e9]
      have A4 := sA_num (i := 3) (z := (adds u c).1 3 + 1) A3 (by decide)
      rw [e9] at A4
      have hst : stp (q 20) (x 31) (u, c) = .inl (sld u o to, c + 1) := by
        unfold stp
        rw [nxt_some e5 hlt hf]
        simp only [hf]
      have hp := pot_sld (t := u) c3 hlt c4
      rw [had2, had0]
      refine ih (pot (q 20) (sld u o to).2.1 * 9 + (q 20 - 0)) _ _ _ (by omega) ⟨0, (sld u o to, c + 1), n2, ρ2, ad2, mc2, em2, r - 1, rfl, Nat.zero_le _, rfl, rfl, A4, X.trans X2, B.trans B2, fun j hj => by omega, by show pot (q 20) (sld u o to).2.1 < r - 1; omega, okT_sld ok' c3 hlt c4, ?_⟩
      rw [← e7]
      cases r with
      | zero => omega
      | succ r =>
        simp only [rn, hst]
        rfl
theorem cnv_1 : cnv 2 = 1 := rfl
theorem cnv_2 : cnv 1 = 2 := rfl
/-- what became of a find is written down -/
def fatT (t : TT) (f : Nat) (z : Int32) : TT := (t.1, t.2.1, t.2.2.1, t.2.2.2.1, upd t.2.2.2.2 f z)
theorem s_putEnd {f : Nat} {z : Int32} {Q : Unit → sd_H → Nat × Nat → Prop} (A : sA G n ρ K ad F q x em cs t) (hf : f < 24) : wp (sd_astI 0 (ad 3) (n3 f) (cnv z)) (hSo G n ρ K ad F q x mc em t) b Q = Q () (hSo G n ρ K ad F q x mc em (fatT t f z)) b := by
  have q8 := A.2.2.2.1.1.2
  have hV : sV (q 20) em cs 3 := Or.inr (Or.inl rfl)
  unfold hSo
  rw [wp_astI (t := 0) (n := 24) (f := fun f => cnv (t.2.2.2.2 f)) (nh_at (A.1.1 3 hV)) (n3_ix hf (by omega)), n3_nn (by omega), nh_up (A.1.1 3 hV) A.1.one]
  congr 1
  refine nh_congr (fun a j hj => sV_ind (P := fun j => updE (cS ad F q x (sd_ad G 0) mc em t) 3 (.inl (0, 24, .inl (upd (fun f => cnv (t.2.2.2.2 f)) f (sd_nar 0 (cnv z))))) j = cS ad F q x (sd_ad G 0) mc em (fatT t f z) j) ?_ ?_ ?_ ?_ ?_ j (A.1.2.1 a j hj).2)
  · rw [updE_ne (by omega)]
    rfl
  · rw [updE_same]
    show _ = (.inl (0, 24, .inl (fun g => cnv (upd t.2.2.2.2 f z g))) : sd_E)
    congr 4
    funext g
    unfold upd
    split <;> rfl
  · intro r hr
    rw [updE_ne (by omega), cS_10 (by omega), cS_10 (by omega)]
    rfl
  · intro r hr her
    rw [updE_ne (by omega), cS_20 (by omega), cS_20 (by omega)]
    rfl
  · intro d hd hds
    rw [updE_ne (by omega), cS_100, cS_100]
    rfl
theorem s_dig {s : Nat} {Q : Int32 → sd_H → Nat × Nat → Prop} (A : sA G n ρ K ad F q x em cs t) (hs : s < q 20) (h1 : 1 ≤ t.2.1 s) (hb : rq (q 20) b em) (kk : ∀ n' ρ' ad' mc' em' b', xt n ρ ad em n' ρ' ad' em' → bd (q 20) b em b' em' → sA G n' ρ' K ad' F q x em' cs (digT (q 20) x t s) → Q (x 30 (topC t s)) (hSo G n' ρ' K ad' F q x mc' em' (digT (q 20) x t s)) b') : wp (fX3_dig G (ad 0) (n3 s)) (hSo G n ρ K ad F q x mc em t) b Q := by
  have q8 := A.2.2.2.1.1.2
  have hP := A.2.2.2.1
  have ok := A.2.2.2.2
  have htop : topC t s < 80 := ok.top hs h1
  have hcs : cs (topC t s) = true := A.2.1.1 s (t.2.1 s - 1) hs (by omega)
  have hs0 : n3 (t.2.1 s) - 1 = n3 (t.2.1 s - 1) := n3_sub h1
  have A1 := sA_low A hs
  have okd := okT_dg1 hP ok hs h1
  have A2 := sA_num (i := 2) (z := (lowT t s).1 2 + 1) A1 (by decide)
  have q24 := hP.2.2.2.1
  unfold fX3_dig fX3_dig_b66
  simp (disch := omega) only [↓wp_bnd, ↓wp_ret, ↓wp_ite, ↓reduceIte, s_rd A, s_top A hs h1, s_isS A, s_seat A hs, al_rd (s_list A hs), s_height A hs, hs0, s_remove A hs h1]
  simp (disch := omega) only [↓wp_bnd, ↓wp_ret, ↓wp_ite, ↓reduceIte, s_rd A1]
  rw [s_putN (i := 2) A1 (by omega)]
  have cu := s_cush (mc := upd mc s (mc s + 1)) A2 htop hcs
  rw [(cu_rd cu).2.1]
  by_cases c1 : x 30 (topC t s) = -1
  · have e : dg1 x t s = numT (lowT t s) 2 ((lowT t s).1 2 + 1) := by
      unfold dg1
      rw [if_pos c1]
      rfl
    simp (disch := omega) only [↓wp_bnd, ↓wp_ret, ↓wp_ite, ↓reduceIte, s_rd A2, c1]
    refine s_settle A2 hb (fun n' ρ' ad' mc' em' b' X B A3 => ?_)
    rw [← e] at A3 ⊢
    have cu3 := s_cush (mc := mc') A3 htop hcs
    rw [show ad' (100 + topC t s) = ad (100 + topC t s) from X.ad (by omega)] at cu3
    have e3 : hSo G n' ρ' K ad' F q x mc' em' (setl (q 20) (x 31) (dg1 x t s)) = hSo G n' ρ' K ad' F q x mc' em' (digT (q 20) x t s) := rfl
    rw [(cu_rd cu3).2.1]
    exact kk n' ρ' ad' mc' em' b' X B A3
  · obtain ⟨c2 | ⟨f, hf, c3, c4⟩, -⟩ := hP.2.2.2.2.2.2 (topC t s) htop
    · exact absurd c2 c1
    · have hf3 : ¬ (n3 f = -1) := by
        rw [← c3]
        exact c1
      have e : dg1 x t s = fatT (numT (lowT t s) 2 ((lowT t s).1 2 + 1)) f (if t.2.2.2.1 (topC t s) = 1 then 1 else 2) := by
        unfold dg1
        rw [if_neg c1, c3, n3_nn (by omega)]
        rfl
      have fin : ∀ z : Int32, z = (if t.2.2.2.1 (topC t s) = 1 then 1 else 2) → wp (sd_bnd (sd_astI 0 (ad 3) (n3 f) (cnv z)) fun _ => sd_bnd (sd_isC G 2 (ad 0)) fun _ => sd_bnd (fX3_settle G (ad 0)) fun _ => sd_bnd (sd_getI G 3 1 (ad (100 + topC t s))) fun v12 => sd_ret v12) (hSo G n ρ K ad F q x (upd mc s (mc s + 1)) em (numT (lowT t s) 2 ((lowT t s).1 2 + 1))) b Q := by
        intro z hz
        rw [wp_bnd, s_putEnd A2 (by omega)]
        have A3 : sA G n ρ K ad F q x em cs (dg1 x t s) := ⟨A2.1, A2.2.1, A2.2.2.1, A2.2.2.2.1, okd⟩
        rw [hz, ← e]
        simp only [wp_bnd, s_rd A3]
        refine s_settle A3 hb (fun n' ρ' ad' mc' em' b' X B A4 => ?_)
        have cu3 := s_cush (mc := mc') A4 htop hcs
        rw [show ad' (100 + topC t s) = ad (100 + topC t s) from X.ad (by omega)] at cu3
        rw [(cu_rd cu3).2.1, wp_ret]
        exact kk n' ρ' ad' mc' em' b' X B A4
      simp (disch := omega) only [↓wp_bnd, ↓wp_ret, ↓wp_ite, ↓reduceIte, s_rd A2, c1]
      rw [(cu_rd cu).2.1, (cu_rd cu).2.2.2, c3]
      rcases ok.2.2.2.2.1 (topC t s) htop with c5 | c5
      · have := fin 2 (by rw [if_neg (by rw [c5]; decide)])
        rw [cnv_1] at this
        simp only [wp_bnd, wp_ret] at this
        have c6 : (numT (lowT t s) 2 ((lowT t s).1 2 + 1)).2.2.2.1 (topC t s) = 0 := c5
        simp only [c6, ↓reduceIte]
        exact this
      · have := fin 1 (by rw [if_pos c5])
        rw [cnv_2] at this
        simp only [wp_bnd, wp_ret] at this
        have c6 : (numT (lowT t s) 2 ((lowT t s).1 2 + 1)).2.2.2.1 (topC t s) = 1 := c5
        simp only [c6, show ((1 : Int32) = 0) = False from by decide, ↓reduceIte]
        exact this
end SS
