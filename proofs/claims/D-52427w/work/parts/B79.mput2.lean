/-! THE PLAIN LAW: the map of names gets a name, all of it -/
section MP2
variable {G : sd_G} {h h' : sd_H} {b : Nat × Nat} {x m k v : Nat} {l : List Nat} {ky nd iv : Nat → Nat} {kt : Nat → List Nat} {N : Nat → Prop}
theorem bks_suc {i : Nat} : bks (updT kt k l) (k + 1) i = if bk (spr (hsh l)) = i then bks kt k i ++ [k] else bks kt k i := by
  unfold bks
  rw [List.range_succ, List.filter_append]
  have e1 : (List.range k).filter (fun j => decide (bk (spr (hsh (updT kt k l j))) = i)) = (List.range k).filter (fun j => decide (bk (spr (hsh (kt j))) = i)) := by
    refine List.filter_congr (fun j hj => ?_)
    rw [List.mem_range] at hj
    rw [updT_ne (by omega)]
  rw [e1]
  by_cases c : bk (spr (hsh l)) = i
  · rw [if_pos c, List.filter_cons_of_pos (by rw [updT_same]; simpa using c)]
    rfl
  · rw [if_neg c, List.filter_cons_of_neg (by rw [updT_same]; simpa using c)]
    exact List.append_nil _
theorem bks_lt {i j : Nat} (h : j ∈ bks kt k i) : j < k := by
  unfold bks at h
  rw [List.mem_filter, List.mem_range] at h
  exact h.1
theorem bks_bk {i j : Nat} (h : j ∈ bks kt k i) : bk (spr (hsh (kt j))) = i := by
  unfold bks at h
  rw [List.mem_filter] at h
  simpa using h.2
theorem bks_pw {i : Nat} (hnd : ∀ i j, i < j → j < k → nd i ≠ nd j) : (bks kt k i).Pairwise (fun i i' => nd i ≠ nd i') := by
  unfold bks
  have h1 : ((List.range k).filter (fun j => decide (bk (spr (hsh (kt j))) = i))).Pairwise (· < ·) := List.Pairwise.filter _ List.pairwise_lt_range
  refine List.Pairwise.imp_of_mem ?_ h1
  intro a c ha hc hac
  rw [List.mem_filter, List.mem_range] at hc
  exact hnd a c hac hc.1
theorem c_259 {tb : Option Nat} {mc : Int32} {fl : UInt32} {Q : Option Nat → sd_H → Nat × Nat → Prop} (hm : h.2 m = some (aHM tb k mc 12 fl)) (hk : k ≤ 5) (kk : Q none (sd_up h m (aHM tb (k + 1) (mc + 1) 12 fl)) b) : wp (fJ22_putVal_b259 G m 1) h b Q := by
  unfold fJ22_putVal_b259 fJ22_afterNodeInsertion
  have u1 := up_at h m (aHM tb k (mc + 1) 12 fl)
  have u2 := up_at h m (aHM tb (k + 1) (mc + 1) 12 fl)
  rw [wp_bnd, wp_getI (sd_look_new hm) rfl, wp_bnd, wp_put hm (Nat.le_of_ble_eq_true rfl) rfl rfl, wp_bnd]
  show wp _ (sd_up h m (aHM tb k (mc + 1) 12 fl)) b _
  rw [wp_getI (sd_look_new u1) rfl, wp_bnd, wp_ret, wp_bnd, wp_put u1 (Nat.le_of_ble_eq_true rfl) rfl rfl, up_up, show n3 k + 1 = n3 (k + 1) from n3_add k 1]
  show wp _ (sd_up h m (aHM tb (k + 1) (mc + 1) 12 fl)) b _
  rw [wp_bnd, wp_getI (sd_look_new u2) rfl, wp_ite, if_pos (by rw [show (12 : Int32) = n3 12 from rfl, n3_le (by omega) (by omega)]; omega), wp_bnd, wp_isC (sd_look_new u2), wp_bnd, wp_ret, wp_ret]
  exact kk
/-- what stays when a name is put -/
def hmF (h h' : sd_H) : Prop := h.1 ≤ h'.1 ∧ ∀ a e, h.2 a = some e → isHm e = false → h'.2 a = some e
theorem hmF.trans {h1 h2 h3 : sd_H} (p : hmF h1 h2) (q : hmF h2 h3) : hmF h1 h3 := ⟨Nat.le_trans p.1 q.1, fun a e ha he => q.2 a e (p.2 a e ha he) he⟩
theorem hmF_pu {e : sd_E} (w : wfH G h) : hmF h (sd_pu h e) := ⟨Nat.le_succ _, fun a e ha _ => (pu_ne (by have := (w.1 _ _ ha).2; omega)).trans ha⟩
theorem hmF_up {a : Nat} {e0 e : sd_E} (ha : h.2 a = some e0) (he : isHm e0 = true) : hmF h (sd_up h a e) := ⟨Nat.le_refl _, fun z e' hz he' => by
  rw [up_ne]
  · exact hz
  · rintro rfl
    rw [ha] at hz
    cases hz
    rw [he] at he'
    cases he'⟩
theorem strN_hm (H : strN h x l) (f : hmF h h') : strN h' x l := by
  obtain ⟨v, hs, hz, g, e1, e2, e3⟩ := H
  exact ⟨v, hs, hz, g, f.2 _ _ e1 rfl, f.2 _ _ e2 rfl, e3⟩
/-- the map's own cells lie from n0 on -/
def mow (n0 m k : Nat) (nd : Nat → Nat) (h : sd_H) : Prop := n0 ≤ m ∧ (∀ j, j < k → n0 ≤ nd j) ∧ ∀ t k' mc thr fl, h.2 m = some (aHM (some t) k' mc thr fl) → n0 ≤ t
theorem aHM_t {t t' k k' : Nat} {mc thr mc' thr' : Int32} {fl fl' : UInt32} (q : (some (aHM (some t) k mc thr fl) : Option sd_E) = some (aHM (some t') k' mc' thr' fl')) : t = t' := by
  injection q with q
  injection q with q
  injection q with _ q
  injection q with _ q
  injection q with _ q
  injection q with q _
  have q : Value.ref t = Value.ref t' := q
  injection q
theorem mow_new {n0 o t : Nat} {mc : Int32} {fl : UInt32} (M : mow n0 m k nd h) (ho : n0 ≤ o) (ht : n0 ≤ t) (h2 : h'.2 m = some (aHM (some t) (k + 1) mc 12 fl)) : mow n0 m (k + 1) (updN nd k o) h' := by
  refine ⟨M.1, fun j hj => ?_, fun t' k' mc' thr' fl' q => ?_⟩
  · by_cases c : j = k
    · rw [c, updN_same]
      exact ho
    · rw [updN_ne c]
      exact M.2.1 j (by omega)
  · rw [h2] at q
    rw [← aHM_t q]
    exact ht
/-- with the table there -/
theorem c_put29 {t : Nat} {f : Nat → Option Nat} {mc : Int32} {fl : UInt32} {Q : Option Nat → sd_H → Nat × Nat → Prop} (w : wfH G h) (hm : h.2 m = some (aHM (some t) k mc 12 fl)) (ht : h.2 t = some (.inl (5, 16, .inr (.inr (.inr (.inr f)))))) (hc : ∀ i, i < 16 → chn h ky nd iv kt (f i) (bks kt k i)) (hk : k ≤ 5) (hy : ∀ j, j < k → strN h (ky j) (kt j) ∧ N (ky j)) (hnd : ∀ i j, i < j → j < k → kt i ≠ kt j ∧ nd i ≠ nd j) (H : strN h x l) (hx : N x) (hne : ∀ j, j < k → kt j ≠ l) (b1 : 1 ≤ b.1) (b2 : 4 ≤ b.2)
    (kk : ∀ h', wfH G h' → HM N m (k + 1) (updN ky k x) (updN nd k h.1) (updN iv k v) (updT kt k l) h' → hmF h h' → (∀ n0, n0 ≤ h.1 → mow n0 m k nd h → (∀ a, a < n0 → h'.2 a = h.2 a) ∧ mow n0 m (k + 1) (updN nd k h.1) h') → Q none h' (b.1 - 1, b.2 - 4)) : wp (fJ22_putVal_b29 G m (spr (hsh l)) x v 0 1 t (n3 16)) h b Q := by
  obtain ⟨bk1, bk2⟩ := bk_ok (spr (hsh l))
  have lm := (w.1 _ _ hm).2
  have lt := (w.1 _ _ ht).2
  have mt : m ≠ t := by
    rintro rfl
    rw [hm] at ht
    cases ht
  -- the names
  have nm : ∀ h', hmF h h' → (∀ j, j < k + 1 → strN h' (updN ky k x j) (updT kt k l j) ∧ N (updN ky k x j)) ∧ (∀ i j, i < j → j < k + 1 → updT kt k l i ≠ updT kt k l j ∧ updN nd k h.1 i ≠ updN nd k h.1 j) := by
    intro h' hf
    refine ⟨fun j hj => ?_, fun i j hij hj => ?_⟩
    · by_cases c : j = k
      · rw [c, updN_same, updT_same]
        exact ⟨strN_hm H hf, hx⟩
      · rw [updN_ne c, updT_ne c]
        exact ⟨strN_hm (hy j (by omega)).1 hf, (hy j (by omega)).2⟩
    · rw [updT_ne (show i ≠ k by omega), updN_ne (show i ≠ k by omega)]
      by_cases c : j = k
      · rw [c, updN_same, updT_same]
        refine ⟨hne i (by omega), ?_⟩
        have C := hc (bk (spr (hsh (kt i)))) (bk_ok _).1
        have mem : i ∈ bks kt k (bk (spr (hsh (kt i)))) := by
          unfold bks
          rw [List.mem_filter, List.mem_range]
          exact ⟨by omega, by simp⟩
        have ex : ∀ (r : List Nat) (p : Option Nat), chn h ky nd iv kt p r → i ∈ r → nd i < h.1 := by
          intro r
          induction r with
          | nil => intro p _ hi; cases hi
          | cons j r ih =>
            intro p C hi
            obtain ⟨-, nx, c2, c3⟩ := C
            rw [List.mem_cons] at hi
            rcases hi with rfl | hi
            · exact (w.1 _ _ c2).2
            · exact ih nx c3 hi
        have := ex _ _ C mem
        omega
      · rw [updT_ne c, updN_ne c]
        exact hnd i j hij (by omega)
  have same : ∀ i, i < k → updN nd k h.1 i = nd i ∧ updN ky k x i = ky i ∧ updN iv k v i = iv i ∧ updT kt k l i = kt i := fun i hi => ⟨updN_ne (by omega), updN_ne (by omega), updN_ne (by omega), updT_ne (by omega)⟩
  unfold fJ22_putVal_b29
  rw [wp_bnd, wp_ret, bk2, wp_bnd, wp_aldQ (sd_look_new ht) (n3_ix bk1 (by omega)), n3_nn (by omega)]
  have C := hc _ bk1
  cases hB : bks kt k (bk (spr (hsh l))) with
  | nil =>
    rw [hB] at C
    have C : f (bk (spr (hsh l))) = none := C
    rw [C]
    show wp (sd_bnd (sd_isC G 43 m) _) h b Q
    rw [wp_bnd, wp_isC (sd_look_new hm), wp_bnd]
    refine j_node b1 b2 ?_
    have w1 : wfH G (sd_pu h (ndC (spr (hsh l)) x v none)) := wfH_pu w
    have t1 : (sd_pu h (ndC (spr (hsh l)) x v none)).2 t = some (.inl (5, 16, .inr (.inr (.inr (.inr f))))) := (pu_ne (by omega)).trans ht
    have ok : sd_okQ G (sd_pu h (ndC (spr (hsh l)) x v none)) 5 (some h.1) = true := by
      unfold sd_okQ
      simp only [sd_look_new (pu_at h (ndC (spr (hsh l)) x v none))]
      rfl
    rw [wp_bnd, wp_astQ t1 (n3_ix bk1 (by omega)) ok, n3_nn (by omega)]
    have m2 : (sd_up (sd_pu h (ndC (spr (hsh l)) x v none)) t (.inl (5, 16, .inr (.inr (.inr (.inr (va_up f (bk (spr (hsh l))) (some h.1)))))))).2 m = some (aHM (some t) k mc 12 fl) := (up_ne mt).trans ((pu_ne (by omega)).trans hm)
    refine c_259 m2 hk ?_
    have hf : hmF h (sd_up (sd_up (sd_pu h (ndC (spr (hsh l)) x v none)) t (.inl (5, 16, .inr (.inr (.inr (.inr (va_up f (bk (spr (hsh l))) (some h.1)))))))) m (aHM (some t) (k + 1) (mc + 1) 12 fl)) := ((hmF_pu w).trans (hmF_up t1 rfl)).trans (hmF_up m2 rfl)
    obtain ⟨n1, n2⟩ := nm _ hf
    refine kk _ (wfH_up (wfH_up w1 t1) m2) ⟨⟨some t, mc + 1, 12, fl, up_at _ _ _, Or.inr ⟨t, _, rfl, rfl, (up_ne (Ne.symm mt)).trans (up_at _ _ _), fun i hi => ?_⟩⟩, by omega, n1, n2⟩ hf (fun n0 hn M => ⟨fun a ha => ?_, mow_new M hn (M.2.2 _ _ _ _ _ hm) (up_at _ _ _)⟩)
    rotate_left
    · have q1 := M.1
      have q2 := M.2.2 _ _ _ _ _ hm
      rw [up_ne (by omega), up_ne (by omega), pu_ne (by omega)]
    have keep : ∀ a e z y vv nx, e = ndC z y vv nx → h.2 a = some e → (sd_up (sd_up (sd_pu h (ndC (spr (hsh l)) x v none)) t (.inl (5, 16, .inr (.inr (.inr (.inr (va_up f (bk (spr (hsh l))) (some h.1)))))))) m (aHM (some t) (k + 1) (mc + 1) 12 fl)).2 a = some e := by
      intro a e z y vv nx he ha
      have am : a ≠ m := by
        rintro rfl
        rw [hm] at ha
        cases ha
        cases he
      have at' : a ≠ t := by
        rintro rfl
        rw [ht] at ha
        cases ha
        cases he
      have := (w.1 _ _ ha).2
      rw [up_ne am, up_ne at', pu_ne (by omega)]
      exact ha
    have ch' : ∀ i, i < 16 → chn (sd_up (sd_up (sd_pu h (ndC (spr (hsh l)) x v none)) t (.inl (5, 16, .inr (.inr (.inr (.inr (va_up f (bk (spr (hsh l))) (some h.1)))))))) m (aHM (some t) (k + 1) (mc + 1) 12 fl)) (updN ky k x) (updN nd k h.1) (updN iv k v) (updT kt k l) (f i) (bks kt k i) := by
      intro i hi
      refine chn_on (h := (sd_up (sd_up (sd_pu h (ndC (spr (hsh l)) x v none)) t (.inl (5, 16, .inr (.inr (.inr (.inr (va_up f (bk (spr (hsh l))) (some h.1)))))))) m (aHM (some t) (k + 1) (mc + 1) 12 fl))) (ky := ky) (nd := nd) (iv := iv) (kt := kt) _ _ (fun j hj => ?_) (chn_keep (fun a z y vv nx ha => keep a _ z y vv nx rfl ha) _ _ (hc i hi))
      obtain ⟨s1, s2, s3, s4⟩ := same j (bks_lt hj)
      exact ⟨s1, s2, s3, s4, fun e he => he⟩
    rw [bks_suc]
    by_cases ci : bk (spr (hsh l)) = i
    · subst ci
      rw [if_pos rfl, hB]
      show chn _ _ _ _ _ (va_up f (bk (spr (hsh l))) (some h.1) (bk (spr (hsh l)))) [k]
      refine ⟨?_, none, ?_, rfl⟩
      · rw [updN_same]
        exact if_pos rfl
      · rw [updN_same, updN_same, updN_same, updT_same, up_ne (by omega), up_ne (by omega)]
        exact pu_at h _
    · rw [if_neg ci, show va_up f (bk (spr (hsh l))) (some h.1) i = f i from if_neg (fun e => ci e.symm)]
      exact ch' i hi
  | cons j r =>
    rw [hB] at C
    have C0 := C
    obtain ⟨c1, nx, c2, c3⟩ := C
    have hj : j < k := bks_lt (kt := kt) (i := bk (spr (hsh l))) (by rw [hB]; simp)
    have hjy := (hy j hj).1
    have rd := ndC_rd (G := G) c2
    have rk : ∀ i, i ∈ j :: r → i < k := fun i hi => bks_lt (kt := kt) (i := bk (spr (hsh l))) (by rw [hB]; exact hi)
    have len : (j :: r).length ≤ k := by
      rw [← hB]
      unfold bks
      exact Nat.le_trans (List.length_filter_le _ _) (by rw [List.length_range]; exact Nat.le_refl _)
    rw [List.length_cons] at len
    have pw : (j :: r).Pairwise (fun i i' => nd i ≠ nd i') := by
      rw [← hB]
      exact bks_pw (fun i j h1 h2 => (hnd i j h1 h2).2)
    have hl := rk _ (lst_mem r j)
    -- the last node
    obtain ⟨nxl, cl⟩ : ∃ nx, h.2 (nd (lst j r)) = some (ndC (spr (hsh (kt (lst j r)))) (ky (lst j r)) (iv (lst j r)) nx) := by
      have ex : ∀ (r : List Nat) (p : Option Nat) (i : Nat), chn h ky nd iv kt p r → i ∈ r → ∃ nx, h.2 (nd i) = some (ndC (spr (hsh (kt i))) (ky i) (iv i) nx) := by
        intro r
        induction r with
        | nil => intro p i _ hi; cases hi
        | cons j r ih =>
          intro p i C hi
          obtain ⟨-, nx, c2, c3⟩ := C
          rw [List.mem_cons] at hi
          rcases hi with rfl | hi
          · exact ⟨nx, c2⟩
          · exact ih nx i c3 hi
      exact ex _ _ _ C0 (lst_mem r j)
    have w1 : wfH G (sd_pu h (ndC (spr (hsh l)) x v none)) := wfH_pu w
    have ll := (w.1 _ _ cl).2
    have l1 : (sd_pu h (ndC (spr (hsh l)) x v none)).2 (nd (lst j r)) = some (ndC (spr (hsh (kt (lst j r)))) (ky (lst j r)) (iv (lst j r)) nxl) := (pu_ne (by omega)).trans cl
    have nm1 : m ≠ nd (lst j r) := by
      intro e
      rw [← e, hm] at cl
      cases cl
    have nt1 : t ≠ nd (lst j r) := by
      intro e
      rw [← e, ht] at cl
      cases cl
    have m2 : (sd_up (sd_pu h (ndC (spr (hsh l)) x v none)) (nd (lst j r)) (ndC (spr (hsh (kt (lst j r)))) (ky (lst j r)) (iv (lst j r)) (some h.1))).2 m = some (aHM (some t) k mc 12 fl) := (up_ne nm1).trans ((pu_ne (by omega)).trans hm)
    have fin : wp (fJ22_putVal_b259 G m 1) (sd_up (sd_pu h (ndC (spr (hsh l)) x v none)) (nd (lst j r)) (ndC (spr (hsh (kt (lst j r)))) (ky (lst j r)) (iv (lst j r)) (some h.1))) (b.1 - 1, b.2 - 4) Q := by
      refine c_259 m2 hk ?_
      have hf : hmF h (sd_up (sd_up (sd_pu h (ndC (spr (hsh l)) x v none)) (nd (lst j r)) (ndC (spr (hsh (kt (lst j r)))) (ky (lst j r)) (iv (lst j r)) (some h.1))) m (aHM (some t) (k + 1) (mc + 1) 12 fl)) := ((hmF_pu w).trans (hmF_up l1 rfl)).trans (hmF_up m2 rfl)
      obtain ⟨n1, n2⟩ := nm _ hf
      have keep : ∀ a e, a ≠ nd (lst j r) → a ≠ m → h.2 a = some e → (sd_up (sd_up (sd_pu h (ndC (spr (hsh l)) x v none)) (nd (lst j r)) (ndC (spr (hsh (kt (lst j r)))) (ky (lst j r)) (iv (lst j r)) (some h.1))) m (aHM (some t) (k + 1) (mc + 1) 12 fl)).2 a = some e := by
        intro a e a1 a2 ha
        have := (w.1 _ _ ha).2
        rw [up_ne a2, up_ne a1, pu_ne (by omega)]
        exact ha
      refine kk _ (wfH_up (wfH_up w1 l1) m2) ⟨⟨some t, mc + 1, 12, fl, up_at _ _ _, Or.inr ⟨t, f, rfl, rfl, keep _ _ nt1 (Ne.symm mt) ht, fun i hi => ?_⟩⟩, by omega, n1, n2⟩ hf (fun n0 hn M => ⟨fun a ha => ?_, mow_new M hn (M.2.2 _ _ _ _ _ hm) (up_at _ _ _)⟩)
      rotate_left
      · have q1 := M.1
        have q2 := M.2.1 _ hl
        rw [up_ne (by omega), up_ne (by omega), pu_ne (by omega)]
      rw [bks_suc]
      by_cases ci : bk (spr (hsh l)) = i
      · subst ci
        rw [if_pos rfl, hB]
        -- m is no node: the map's own cell set apart
        have C1 : chn (sd_up h m (aHM (some t) (k + 1) (mc + 1) 12 fl)) ky nd iv kt (f (bk (spr (hsh l)))) (j :: r) := by
          refine chn_keep (fun a z y vv nx ha => ?_) _ _ C0
          rw [up_ne]
          · exact ha
          · rintro rfl
            rw [hm] at ha
            cases ha
        refine chn_ext (h := sd_up h m (aHM (some t) (k + 1) (mc + 1) 12 fl)) (o := h.1) r j _ (fun i hi => same i (rk i hi)) pw (fun a e a1 ha => ?_) ?_ (updN_same _ _ _) ?_ C1
        · by_cases am : a = m
          · rw [am, up_at] at ha
            rw [am, up_at]
            exact ha
          · rw [up_ne am] at ha
            exact keep a e a1 am ha
        · rw [up_ne (Ne.symm nm1)]
          exact up_at _ _ _
        · rw [updT_same, updN_same, updN_same, up_ne (by omega), up_ne (by omega)]
          exact pu_at h _
      · rw [if_neg ci]
        refine chn_on (h := h) (ky := ky) (nd := nd) (iv := iv) (kt := kt) _ _ (fun i' hi' => ?_) (hc i hi)
        obtain ⟨s1, s2, s3, s4⟩ := same i' (bks_lt hi')
        refine ⟨s1, s2, s3, s4, fun e he => ?_⟩
        have am : nd i' ≠ nd (lst j r) := by
          have b1 := bks_bk hi'
          have b2 := bks_bk (kt := kt) (k := k) (i := bk (spr (hsh l))) (j := lst j r) (by rw [hB]; exact lst_mem r j)
          intro e
          rcases Nat.lt_trichotomy i' (lst j r) with q | q | q
          · exact (hnd _ _ q hl).2 e
          · rw [q] at b1
            exact ci (b2.symm.trans b1)
          · exact (hnd _ _ q (bks_lt hi')).2 e.symm
        by_cases mm : nd i' = m
        · exfalso
          have ex : ∀ (r : List Nat) (p : Option Nat) (i : Nat), chn h ky nd iv kt p r → i ∈ r → ∃ nx, h.2 (nd i) = some (ndC (spr (hsh (kt i))) (ky i) (iv i) nx) := by
            intro r
            induction r with
            | nil => intro p i _ hi; cases hi
            | cons j r ih =>
              intro p i C hi
              obtain ⟨-, nx, c2, c3⟩ := C
              rw [List.mem_cons] at hi
              rcases hi with rfl | hi
              · exact ⟨nx, c2⟩
              · exact ih nx i c3 hi
          obtain ⟨nx', q⟩ := ex _ _ _ (hc i hi) hi'
          rw [mm, hm] at q
          cases q
        · exact keep _ _ am mm he
    have lp := c_ext (v := v) (b := b) (Q := Q) hm w H (fun j hj => (hy j hj).1) hne b1 b2 r j 0 sd_FU (by unfold sd_FU; omega) (by omega) rk (c1 ▸ C0) fin
    rw [c1]
    show wp (sd_bnd (sd_getI G 44 0 (nd j)) _) h b Q
    rw [wp_bnd, rd.1, wp_ite]
    by_cases ch : spr (hsh (kt j)) = spr (hsh l)
    · rw [if_pos ch, wp_bnd, rd.2.1, wp_ite, if_neg (fun e => hne j hj (by rw [e] at hjy; exact strN_u hjy H)), wp_bnd, strH_isC (strN_H H), wp_bnd, j_eq (strN_H H) (strN_H hjy), wp_ite, if_neg (fun e : l = kt j => hne j hj e.symm), if_pos rfl, wp_bnd, rd.2.2.2.2]
      exact lp
    · rw [if_neg ch, wp_bnd, rd.2.2.2.2]
      exact lp
theorem c_put {Q : Option Nat → sd_H → Nat × Nat → Prop} (w : wfH G h) (M : HM N m k ky nd iv kt h) (hk : k ≤ 5) (H : strN h x l) (hx : N x) (hN : ∀ a e, N a → h.2 a = some e → ∃ v hs hz, e = aS v hs hz) (hne : ∀ j, j < k → kt j ≠ l) (b1 : 2 ≤ b.1) (b2 : 20 ≤ b.2)
    (kk : ∀ h1 h2 n b', sfr G N h h1 → wfH G h2 → HM N m (k + 1) (updN ky k x) (updN nd k n) (updN iv k v) (updT kt k l) h2 → hmF h1 h2 → (∀ n0, n0 ≤ h.1 → mow n0 m k nd h → (∀ a, a < n0 → h2.2 a = h1.2 a) ∧ mow n0 m (k + 1) (updN nd k n) h2) → b.1 ≤ b'.1 + 2 → b.2 ≤ b'.2 + 20 → Q none h2 b') : wp (fJ22_put G m x v) h b Q := by
  unfold fJ22_put fJ22_putVal fJ22_putVal_b19 fJ22_resize
  rw [wp_bnd]
  refine j_spr H hx hN (fun h1 s => ?_)
  have w1 := s.2.2.2.1 w
  have H1 := s.2.2.1 _ _ H
  obtain ⟨⟨tb, mc, thr, fl, m1, m2⟩, m3, m4, m5⟩ := HM_sfr M s
  have lm := (w1.1 _ _ m1).2
  rw [wp_bnd, wp_isC (sd_look_new m1), wp_bnd, wp_bnd, wp_getQ (sd_look_new m1) rfl]
  rcases m2 with ⟨q1, q2, q3⟩ | ⟨t, f, q1, q2, q3, q4⟩
  · subst q1 q2 q3
    show wp (sd_bnd (sd_isC G 43 m) _) h1 b _
    rw [wp_bnd, wp_isC (sd_look_new m1), wp_bnd, wp_bnd, wp_getQ (sd_look_new m1) rfl]
    show wp (sd_bnd (sd_getI G 43 6 m) _) h1 b _
    have u1 := up_at h1 m (aHM none 0 mc 12 fl)
    rw [wp_bnd, wp_getI (sd_look_new m1) rfl, wp_ite, if_pos (by decide), wp_ite, if_pos (by decide), wp_bnd, wp_put m1 (Nat.le_of_ble_eq_true rfl) rfl rfl, wp_bnd]
    show wp (sd_newQ 5 (n3 16)) (sd_up h1 m (aHM none 0 mc 12 fl)) b _
    refine wp_newQ (by omega) (by omega) (by omega) ?_
    have p1 : (sd_pu (sd_up h1 m (aHM none 0 mc 12 fl)) (.inl (5, 16, .inr (.inr (.inr (.inr fun _ => none)))))).2 m = some (aHM none 0 mc 12 fl) := (pu_ne (h := sd_up h1 m (aHM none 0 mc 12 fl)) (show m ≠ h1.1 by omega)).trans u1
    rw [wp_bnd, wp_put p1 (Nat.le_of_ble_eq_true rfl) rfl rfl]
    show wp (sd_ret h1.1) (sd_up (sd_pu (sd_up h1 m (aHM none 0 mc 12 fl)) (.inl (5, 16, .inr (.inr (.inr (.inr fun _ => none)))))) m (aHM (some h1.1) 0 mc 12 fl)) _ _
    have w2 : wfH G (sd_up (sd_pu (sd_up h1 m (aHM none 0 mc 12 fl)) (.inl (5, 16, .inr (.inr (.inr (.inr fun _ => none)))))) m (aHM (some h1.1) 0 mc 12 fl)) := wfH_up (wfH_pu (wfH_up w1 m1)) p1
    have t2 : (sd_up (sd_pu (sd_up h1 m (aHM none 0 mc 12 fl)) (.inl (5, 16, .inr (.inr (.inr (.inr fun _ => none)))))) m (aHM (some h1.1) 0 mc 12 fl)).2 h1.1 = some (.inl (5, 16, .inr (.inr (.inr (.inr fun _ => none))))) := (up_ne (by omega)).trans (pu_at (sd_up h1 m (aHM none 0 mc 12 fl)) _)
    have hf : hmF h1 (sd_up (sd_pu (sd_up h1 m (aHM none 0 mc 12 fl)) (.inl (5, 16, .inr (.inr (.inr (.inr fun _ => none)))))) m (aHM (some h1.1) 0 mc 12 fl)) := ((hmF_up m1 rfl).trans (hmF_pu (wfH_up w1 m1))).trans (hmF_up p1 rfl)
    rw [wp_ret, wp_bnd, wp_alen (sd_look_new t2)]
    refine c_put29 (N := N) (ky := ky) (nd := nd) (iv := iv) (kt := kt) (k := 0) w2 (up_at _ _ _) t2 (fun i hi => rfl) (by omega) (fun j hj => by omega) (fun i j _ hj => by omega) (strN_hm H1 hf) hx (fun j hj => by omega) (by simp only; omega) (by simp only; omega) (fun h2 w3 M3 f3 o3 => ?_)
    rw [wp_ret]
    refine kk h1 h2 _ _ s w3 M3 (hf.trans f3) (fun n0 hn M9 => ?_) (by simp only; omega) (by simp only; omega)
    have s1 := s.1
    obtain ⟨z1, z2⟩ := o3 n0 (by show n0 ≤ h1.1 + 1; omega) ⟨M9.1, fun j hj => absurd hj (Nat.not_lt_zero _), fun t' k' mc' thr' fl' q => by
      rw [up_at] at q
      rw [← aHM_t q]
      omega⟩
    refine ⟨fun a ha => ?_, z2⟩
    have q1 := M9.1
    rw [z1 a ha, up_ne (by omega), pu_ne (by show a ≠ h1.1; omega), up_ne (by omega)]
  · subst q1 q2
    show wp (sd_bnd (sd_alen G t) _) h1 b _
    rw [wp_bnd, wp_alen (sd_look_new q3), wp_ite, if_neg (show ¬ n3 16 = 0 by decide)]
    refine c_put29 (N := N) (ky := ky) (nd := nd) (iv := iv) (kt := kt) w1 m1 q3 q4 hk m4 m5 H1 hx hne (by omega) (by omega) (fun h2 w3 M3 f3 o3 => ?_)
    rw [wp_ret]
    refine kk h1 h2 _ _ s w3 M3 f3 (fun n0 hn M9 => o3 n0 (by have := s.1; omega) ⟨M9.1, M9.2.1, fun t' k' mc' thr' fl' q => ?_⟩) (by simp only; omega) (by simp only; omega)
    have e0 : h.2 m = some (aHM (some t) k mc 12 fl) := by
      by_cases c : N m
      · obtain ⟨tb, mc, thr, fl, q1, -⟩ := M.1
        obtain ⟨v, hs, hz, q2⟩ := hN m _ c q1
        cases q2
      · rw [← s.2.1 m c]
        exact m1
    rw [m1] at q
    rw [← aHM_t q]
    exact M9.2.2 _ _ _ _ _ e0
theorem c_has {Q : Int32 → sd_H → Nat × Nat → Prop} (M : HM N m k ky nd iv kt h) (H : strN h x l) (hx : N x) (hN : ∀ a e, N a → h.2 a = some e → ∃ v hs hz, e = aS v hs hz) (kk : ∀ h', sfr G N h h' → Q (if (fdK kt l (List.range k)).isSome = true then 1 else 0) h' b) : wp (fJ22_containsKey G m x) h b Q := by
  have m1 : ∃ tb mc thr fl, h.2 m = some (aHM tb k mc thr fl) := by
    obtain ⟨⟨tb, mc, thr, fl, m1, -⟩, -⟩ := M
    exact ⟨tb, mc, thr, fl, m1⟩
  obtain ⟨tb, mc, thr, fl, m1⟩ := m1
  unfold fJ22_containsKey
  rw [wp_bnd, wp_isC (sd_look_new m1), wp_bnd]
  refine c_node M H hx hN (fun h' s => ?_)
  have kk := kk h' s
  cases hd : fdK kt l (List.range k) with
  | none =>
    rw [hd] at kk
    show wp (sd_ret 0) h' b Q
    rw [wp_ret]
    exact kk
  | some j =>
    rw [hd] at kk
    show wp (sd_ret 1) h' b Q
    rw [wp_ret]
    exact kk
theorem c_size {Q : Int32 → sd_H → Nat × Nat → Prop} (M : HM N m k ky nd iv kt h) : wp (fJ22_size G m) h b Q = Q (n3 k) h b := by
  obtain ⟨⟨tb, mc, thr, fl, m1, -⟩, -⟩ := M
  unfold fJ22_size
  rw [wp_bnd, wp_getI (sd_look_new m1) rfl, wp_ret]
theorem hm_isC {Q : Unit → sd_H → Nat × Nat → Prop} (M : HM N m k ky nd iv kt h) : wp (sd_isC G 43 m) h b Q = Q () h b := by
  obtain ⟨⟨tb, mc, thr, fl, m1, -⟩, -⟩ := M
  exact wp_isC (sd_look_new m1)
theorem c_get {j : Nat} {Q : Option Nat → sd_H → Nat × Nat → Prop} (M : HM N m k ky nd iv kt h) (H : strN h x l) (hx : N x) (hN : ∀ a e, N a → h.2 a = some e → ∃ v hs hz, e = aS v hs hz) (hj : fdK kt l (List.range k) = some j) (kk : ∀ h', sfr G N h h' → Q (some (iv j)) h' b) : wp (fJ22_get G m x) h b Q := by
  unfold fJ22_get
  rw [wp_bnd, hm_isC M, wp_bnd]
  refine c_node M H hx hN (fun h' s => ?_)
  rw [hj]
  show wp (sd_bnd (sd_getR G 44 2 (nd j)) _) h' b Q
  have hjk : j < k := by
    have := List.mem_of_find?_eq_some hj
    rw [List.mem_range] at this
    exact this
  obtain ⟨⟨tb, mc, thr, fl, m1, m2⟩, m3, m4, m5⟩ := HM_sfr M s
  rcases m2 with ⟨q1, q2, q3⟩ | ⟨t, f, q1, q2, q3, q4⟩
  · omega
  · have ex : ∀ (r : List Nat) (p : Option Nat) (i : Nat), chn h' ky nd iv kt p r → i ∈ r → ∃ nx, h'.2 (nd i) = some (ndC (spr (hsh (kt i))) (ky i) (iv i) nx) := by
      intro r
      induction r with
      | nil => intro p i _ hi; cases hi
      | cons j r ih =>
        intro p i C hi
        obtain ⟨-, nx, c2, c3⟩ := C
        rw [List.mem_cons] at hi
        rcases hi with rfl | hi
        · exact ⟨nx, c2⟩
        · exact ih nx i c3 hi
    have mem : j ∈ bks kt k (bk (spr (hsh (kt j)))) := by
      unfold bks
      rw [List.mem_filter, List.mem_range]
      exact ⟨hjk, by simp⟩
    obtain ⟨nx, c⟩ := ex _ _ _ (q4 _ (bk_ok _).1) mem
    rw [wp_bnd, (ndC_rd c).2.2.1, wp_ret]
    exact kk h' s
end MP2
