/-! THE PLAIN LAW: the walk over tests joined by or, by and -/
section WTS
variable {G : sd_G} {u : Nat → Nat} {sz n0 n1 tl so m rd k : Nat} {ta tx : Nat → Nat} {w : Int32} {ky nd iv : Nat → Nat} {kt : Nat → List Nat} {d : Nat}
/-- a walk that goes on with what was begun at hs -/
def PB (G : sd_G) (u : Nat → Nat) (sz n0 tl : Nat) (ta tx : Nat → Nat) (rd : Nat) (w : Int32) (so m k : Nat) (ky nd iv : Nat → Nat) (kt : Nat → List Nat) (n1 : Nat) (hs : sd_H) (F : sd_M (Nat ⊕ Nat)) (tr : sd_H → Nat → Nat → List (Int32 × Int32) → Prop) (i d : Nat) (r : PR) (h : sd_H) : Prop := ∀ (b β : Nat × Nat) (v : Nat) (Q : Nat ⊕ Nat → sd_H → Nat × Nat → Prop), RW G u sz n0 tl ta tx rd w so m k ky nd iv kt n1 i d h → bud β b v → 50 * (nT u sz + 1 - i) ≤ v → FK G u sz tx rd (wkF w k kt u sz) r hs β Q → (∀ j ws ks a h' b', r = .inl (j, ws, ks) → fo (wkF w k kt u sz) r = none → RW G u sz n0 tl ta tx rd w so m k ky nd iv kt n1 j d h' → tr h' a j (res (wkF w k kt u sz) ws) → xf rd (nmA u sz tx) hs h' → bud β b' (50 * (nT u sz + 1 - j)) → Q (.inl a) h' b') → wp F h b Q
/-- the part of the loop behind the adding -/
def cont_both (G : sd_G) (D rd o f : Nat) : sd_M (Nat ⊕ Nat) := sd_bnd (sd_isC G 6 rd) fun _ => sd_bnd (fX7_takeIf G rd (sd_ad G 131)) fun r5 => if r5 = 0 then sd_ret (.inl o) else sd_loop (fun k s => fX7_both_b9 G (pRP G D) k s.1 s.2) f (rd, o)
theorem w_body_both {D f i cc c' v o l r cap : Nat} {mc : Int32} {ff : Nat → Option Nat} {ws : List (Nat × List (Int32 × Int32))} {h hs : sd_H} {b β : Nat × Nat} {r0 : PR} {Q : Nat ⊕ Nat → sd_H → Nat × Nat → Prop}
    (A : PW G u sz n0 tl ta tx rd w so m k ky nd iv kt n1 ((pRP G D).2.2.1 rd) 30 5 (fun s h' a j ws => isTs (neF w k) (Lp G (Rg n0 n1 rd (nmA u sz tx) s) h') (1 + 2 * (8 - d)) a ws) i d r0 h) (okA : ∀ j ws ks, r0 = .inl (j, ws, ks) → i + 1 ≤ j ∧ j ≤ nT u sz) (hw : wfH G hs) (X : xf rd (nmA u sz tx) hs h) (R : RW G u sz n0 tl ta tx rd w so m k ky nd iv kt n1 i d h) (hn : n1 ≤ hs.1) (S : SV G u sz n0 tx rd n1 (neF w k) true o l mc r cap ff ws (1 + 2 * (8 - d)) hs.1 h) (hr : r < h.1) (hlen : ws.length ≤ 400) (hb : bud β b (v + cc)) (hv : 50 * (nT u sz + 1 - i) ≤ v + 30) (hc : c' + 1 ≤ 5 + cc) (hc2 : 20 * c' + (2 * ws.length + 10) ≤ 20 * (5 + cc)) (kf : FK G u sz tx rd (wkF w k kt u sz) r0 h β Q)
    (kk : ∀ j ws' ks' a h' b' mc' r' cap' f', r0 = .inl (j, ws', ks') → fo (wkF w k kt u sz) r0 = none → RW G u sz n0 tl ta tx rd w so m k ky nd iv kt n1 j d h' → SV G u sz n0 tx rd n1 (neF w k) true o l mc' r' cap' f' (ws ++ [(a, res (wkF w k kt u sz) ws')]) (1 + 2 * (8 - d)) hs.1 h' → xf rd (nmA u sz tx) hs h' → r' < h'.1 → bud β b' (50 * (nT u sz + 1 - j) + c') → wp (cont_both G D rd o f) h' b' Q) : wp (sd_loop (fun k s => fX7_both_b9 G (pRP G D) k s.1 s.2) (f + 1) (rd, o)) h b Q := by
  show wp (fX7_both_b9 G (pRP G D) (sd_loop (fun k s => fX7_both_b9 G (pRP G D) k s.1 s.2) f) rd o) h b Q
  unfold fX7_both_b9
  have l0 : l < h.1 := (R.1.1 _ _ S.2.1.1).2
  rw [wp_bnd, wp_getR (sd_look_new S.1) rfl, wp_bnd, w_isC R]
  refine PW_bx A R (bud_sh.mp hb) hv (FK_be kf) (fun j ws' ks' a h3 b3 q1 q2 R3 T3 X3 B3 => ?_)
  obtain ⟨oj1, oj2⟩ := okA j ws' ks' q1
  have S3 := SV_xf R hn S X3
  have B3 := bud_sh.mpr B3
  rw [wp_bnd, wp_isC (sd_look_new S3.2.1.1), wp_bnd]
  refine w_add (v' := 50 * (nT u sz + 1 - j) + c') hw (X.trans X3) R3 hn S3 T3 l0 hr hlen B3 (by omega) (by omega) (fun h4 b4 mc' r' cap' f' R4 S4 X4 lr B4 => ?_)
  exact kk j ws' ks' a h4 b4 mc' r' cap' f' q1 q2 R4 S4 X4 lr B4
theorem w_bothR {n D : Nat} (C : wlC G)
    (A : ∀ i r h, i ≤ nT u sz → pE (kdT u sz) (vlT u sz) n 9 i d = some r → okw w r → PW G u sz n0 tl ta tx rd w so m k ky nd iv kt n1 ((pRP G D).2.2.1 rd) 30 5 (fun s h' a j ws => isTs (neF w k) (Lp G (Rg n0 n1 rd (nmA u sz tx) s) h') (1 + 2 * (8 - d)) a ws) i d r h)
    (B : ∀ i r h f hs o l mc rr cap ff ws, i ≤ nT u sz → pE (kdT u sz) (vlT u sz) n 8 i d = some r → okw w r → nT u sz + 1 - i < f → wfH G hs → xf rd (nmA u sz tx) hs h → n1 ≤ hs.1 → SV G u sz n0 tx rd n1 (neF w k) true o l mc rr cap ff ws (1 + 2 * (8 - d)) hs.1 h → rr < h.1 → 1 ≤ ws.length → ws.length ≤ i → PB G u sz n0 tl ta tx rd w so m k ky nd iv kt n1 hs (cont_both G D rd o f) (fun h' a j w2 => isTs (neF w k) (Lp G (Rg n0 n1 rd (nmA u sz tx) hs.1) h') (1 + 2 * (8 - d) + 1) a (joiR true ws ++ w2)) i d r h) :
    ∀ i r h f hs o l mc rr cap ff ws, i ≤ nT u sz → pE (kdT u sz) (vlT u sz) (n + 1) 8 i d = some r → okw w r → nT u sz + 1 - i < f → wfH G hs → xf rd (nmA u sz tx) hs h → n1 ≤ hs.1 → SV G u sz n0 tx rd n1 (neF w k) true o l mc rr cap ff ws (1 + 2 * (8 - d)) hs.1 h → rr < h.1 → 1 ≤ ws.length → ws.length ≤ i → PB G u sz n0 tl ta tx rd w so m k ky nd iv kt n1 hs (cont_both G D rd o f) (fun h' a j w2 => isTs (neF w k) (Lp G (Rg n0 n1 rd (nmA u sz tx) hs.1) h') (1 + 2 * (8 - d) + 1) a (joiR true ws ++ w2)) i d r h := by
  intro i r h f hs o l mc rr cap ff ws hi hp ow hf hw X hn S hr h1 hle b β v Q R hb hv kf ks
  have hp : pBotR (kdT u sz) (pE (kdT u sz) (vlT u sz) n) i d = some r := hp
  have lN := nT_le (u := u) (sz := sz)
  unfold pBotR at hp
  unfold cont_both
  rw [wp_bnd, w_isC R, wp_bnd]
  refine w_tif C R hi (n := 131) (c := 25) (by decide) (fun h1' e R1 X1 nh1 => ?_) (fun e => ?_)
  · have hi1 := tk_lt31 hi e (by decide) (by decide)
    rw [if_pos e] at hp
    obtain ⟨r1, e1, ow1, pf1, nx1⟩ := sqc_go (wk := (wkF w k kt u sz)) wk_tot hp ow
    obtain ⟨r0, e0, ow0, pf0, nx0⟩ := sqc_go (wk := (wkF w k kt u sz)) wk_tot e1 ow1
    have okA : ∀ j ws ks, r0 = .inl (j, ws, ks) → i + 1 + 1 ≤ j ∧ j ≤ nT u sz := by
      intro j ws ks q1
      have := pE_ok tkT n 9 (i + 1) d r0 hi1 e0
      rw [q1] at this
      exact ⟨this.1, this.2.1⟩
    cases f with
    | zero => omega
    | succ f =>
      rw [wp_ite, if_neg (by decide)]
      refine w_body_both (cc := 45) (c' := 0) (v := v - 45) (A (i + 1) r0 h1' hi1 e0 ow0) okA hw (X.trans X1) R1 hn (SV_xf R hn S X1) (by omega) (by omega) (bud_le hb (by omega)) (by omega) (by omega) (by omega) (FK_sub kf (fun e he => pf1 e (pf0 e he)) (X.trans X1)) (fun j ws' ks' a h4 b4 mc' r' cap' f' q1 q2 R4 S4 X4 lr B4 => ?_)
      obtain ⟨rw1, f1, f2, f3, f4⟩ := nx0 j ws' ks' q1 q2
      unfold prW at f1
      cases f1
      obtain ⟨r9, g1, g2, g3, g4⟩ := nx1 j (ws' ++ [(25, 0)]) (ks' ++ []) f3 (f4.trans rfl)
      obtain ⟨oj1, oj2⟩ := okA j ws' ks' q1
      · refine B j r9 h4 f hs o l mc' r' cap' f' (ws ++ [(a, res (wkF w k kt u sz) ws')]) oj2 g1 g2 (by omega) hw X4 hn S4 lr (by rw [List.length_append]; omega) (by rw [List.length_append]; show ws.length + 1 ≤ j; omega) b4 β _ Q R4 B4 (by omega) (FK_sub kf (fun e he => by rw [g4]; exact he) xf.refl) (fun j2 ws2 ks2 a2 h5 b5 p1 p2 R5 T5 X5 B5 => ?_)
        refine ks j2 (ws' ++ [(25, 0)] ++ ws2) (ks' ++ [] ++ ks2) a2 h5 b5 (by rw [g3, p1]; rfl) (g4.trans p2) R5 ?_ X5 B5
        show isTs (neF w k) (Lp G (Rg n0 n1 rd (nmA u sz tx) hs.1) h5) (1 + 2 * (8 - d) + 1) a2 (joiR true ws ++ res (wkF w k kt u sz) (ws' ++ [(25, 0)] ++ ws2))
        rw [res_app, res_app, res_1 (by decide) (by decide) (by decide), ← List.append_assoc]
        have T5 : isTs (neF w k) (Lp G (Rg n0 n1 rd (nmA u sz tx) hs.1) h5) (1 + 2 * (8 - d) + 1) a2 (joiR true (ws ++ [(a, res (wkF w k kt u sz) ws')]) ++ res (wkF w k kt u sz) ws2) := T5
        rw [joiR_sn h1] at T5
        exact T5
  · rw [if_neg e] at hp
    cases hp
    rw [wp_ite, if_pos rfl, wp_ret]
    refine ks i [] [] o h b rfl rfl R ?_ X (bud_le hb (by omega))
    show isTs (neF w k) (Lp G (Rg n0 n1 rd (nmA u sz tx) hs.1) h) (1 + 2 * (8 - d) + 1) o (joiR true ws ++ [])
    rw [List.append_nil]
    exact SV_done R.1 S h1
theorem w_both {n D : Nat} (C : wlC G)
    (A : ∀ i r h, i ≤ nT u sz → pE (kdT u sz) (vlT u sz) n 9 i d = some r → okw w r → PW G u sz n0 tl ta tx rd w so m k ky nd iv kt n1 ((pRP G D).2.2.1 rd) 30 5 (fun s h' a j ws => isTs (neF w k) (Lp G (Rg n0 n1 rd (nmA u sz tx) s) h') (1 + 2 * (8 - d)) a ws) i d r h)
    (B : ∀ i r h f hs o l mc rr cap ff ws, i ≤ nT u sz → pE (kdT u sz) (vlT u sz) n 8 i d = some r → okw w r → nT u sz + 1 - i < f → wfH G hs → xf rd (nmA u sz tx) hs h → n1 ≤ hs.1 → SV G u sz n0 tx rd n1 (neF w k) true o l mc rr cap ff ws (1 + 2 * (8 - d)) hs.1 h → rr < h.1 → 1 ≤ ws.length → ws.length ≤ i → PB G u sz n0 tl ta tx rd w so m k ky nd iv kt n1 hs (cont_both G D rd o f) (fun h' a j w2 => isTs (neF w k) (Lp G (Rg n0 n1 rd (nmA u sz tx) hs.1) h') (1 + 2 * (8 - d) + 1) a (joiR true ws ++ w2)) i d r h) :
    ∀ i r h, i ≤ nT u sz → pE (kdT u sz) (vlT u sz) (n + 1) 7 i d = some r → okw w r → PW G u sz n0 tl ta tx rd w so m k ky nd iv kt n1 ((pRP G (D + 1)).2.1 rd) 20 4 (fun s h' a j ws => isTs (neF w k) (Lp G (Rg n0 n1 rd (nmA u sz tx) s) h') (2 + 2 * (8 - d)) a ws) i d r h := by
  intro i r h hi hp ow b β v Q R hb hv kf ks
  have hp : sqc (pE (kdT u sz) (vlT u sz) n 9 i d) (fun j => pE (kdT u sz) (vlT u sz) n 8 j d) = some r := hp
  obtain ⟨r0, e0, ow0, pf0, nx0⟩ := sqc_go (wk := (wkF w k kt u sz)) wk_tot hp ow
  have okA : ∀ j ws ks, r0 = .inl (j, ws, ks) → i + 1 ≤ j ∧ j ≤ nT u sz := by
    intro j ws ks q1
    have := pE_ok tkT n 9 i d r0 hi e0
    rw [q1] at this
    exact ⟨this.1, this.2.1⟩
  have lN := nT_le (u := u) (sz := sz)
  have hb1 := hb.1
  have hb2 := hb.2
  have l1 := R.2.1
  show wp (fX7_both G (pRP G D) rd) h b Q
  unfold fX7_both
  rw [wp_bnd]
  refine wp_new (by omega) (by omega) ?_
  have R1 : RW G u sz n0 tl ta tx rd w so m k ky nd iv kt n1 i d (sd_pu h (.inr (18, [.int 0, .null]))) := RW_pu R
  rw [wp_bnd]
  unfold fX20_init
  simp only [wp_bnd]
  refine g_new R1.1 (by show 1 ≤ b.1 - 1; omega) (by show 3 ≤ b.2 - 2; omega) ?_
  have R2 : RW G u sz n0 tl ta tx rd w so m k ky nd iv kt n1 i d (sd_pu (sd_pu h (.inr (18, [.int 0, .null]))) (aL 0 (sd_ad G 0) 0)) := RW_pu R1
  have o2 : (sd_pu (sd_pu h (.inr (18, [.int 0, .null]))) (aL 0 (sd_ad G 0) 0)).2 h.1 = some (.inr (18, [.int 0, .null])) := (pu_ne (by show h.1 ≠ h.1 + 1; omega)).trans (pu_at _ _)
  rw [wp_put o2 (Nat.le_of_ble_eq_true rfl) rfl rfl, wp_put (up_at _ _ _) (Nat.le_of_ble_eq_true rfl) rfl rfl, wp_ret, up_up]
  have R3 : RW G u sz n0 tl ta tx rd w so m k ky nd iv kt n1 i d (sd_up (sd_pu (sd_pu h (.inr (18, [.int 0, .null]))) (aL 0 (sd_ad G 0) 0)) h.1 (.inr (18, [.int (bI true), .ref (h.1 + 1)]))) := RW_up R2 o2 l1
  have X3 : xf rd (nmA u sz tx) h (sd_up (sd_pu (sd_pu h (.inr (18, [.int 0, .null]))) (aL 0 (sd_ad G 0) 0)) h.1 (.inr (18, [.int (bI true), .ref (h.1 + 1)]))) := xf_upn R.1 ((xf_pu R.1).trans (xf_pu R1.1)) (Nat.le_refl _)
  have S3 : SV G u sz n0 tx rd n1 (neF w k) true h.1 (h.1 + 1) 0 (sd_ad G 0) 0 (fun _ => none) [] (1 + 2 * (8 - d)) h.1 (sd_up (sd_pu (sd_pu h (.inr (18, [.int 0, .null]))) (aL 0 (sd_ad G 0) 0)) h.1 (.inr (18, [.int (bI true), .ref (h.1 + 1)]))) := ⟨up_at _ _ _, ⟨(up_ne (by omega)).trans (pu_at _ _), Or.inl ⟨rfl, rfl, rfl⟩, Nat.le_refl _, by omega⟩, Nat.le_refl _, by omega, Or.inl rfl, fun q p hq => by cases hq⟩
  have z0 := (wfH_z0 R.1).2
  have z1 := R.1.2.1
  have hr3 : sd_ad G 0 < (sd_up (sd_pu (sd_pu h (.inr (18, [.int 0, .null]))) (aL 0 (sd_ad G 0) 0)) h.1 (.inr (18, [.int (bI true), .ref (h.1 + 1)]))).1 := by
    show sd_ad G 0 < h.1 + 1 + 1
    omega
  show wp (sd_loop (fun k s => fX7_both_b9 G (pRP G D) k s.1 s.2) (999999 + 1) (rd, h.1)) (sd_up (sd_pu (sd_pu h (.inr (18, [.int 0, .null]))) (aL 0 (sd_ad G 0) 0)) h.1 (.inr (18, [.int (bI true), .ref (h.1 + 1)]))) (b.1 - 1 - 1, b.2 - 2 - 3) Q
  have hb3 : bud β (b.1 - 1 - 1, b.2 - 2 - 3) (v - 2 + 0) := ⟨by simp only; omega, by simp only; omega⟩
  generalize sd_up (sd_pu (sd_pu h (.inr (18, [.int 0, .null]))) (aL 0 (sd_ad G 0) 0)) h.1 (.inr (18, [.int (bI true), .ref (h.1 + 1)])) = h3 at R3 X3 S3 hr3 ⊢
  refine w_body_both (cc := 0) (c' := 4) (v := v - 2) (A i r0 h3 hi e0 ow0) okA R.1 X3 R3 l1 S3 hr3 (Nat.zero_le _) hb3 (by omega) (by omega) (by show 20 * 4 + (2 * 0 + 10) ≤ _; omega) (FK_sub kf pf0 X3) (fun j ws' ks' a h4 b4 mc' r' cap' f' q1 q2 R4 S4 X4 lr B4 => ?_)
  obtain ⟨r9, g1, g2, g3, g4⟩ := nx0 j ws' ks' q1 q2
  obtain ⟨oj1, oj2⟩ := okA j ws' ks' q1
  refine B j r9 h4 999999 h h.1 (h.1 + 1) mc' r' cap' f' ([] ++ [(a, res (wkF w k kt u sz) ws')]) oj2 g1 g2 (by omega) R.1 X4 l1 S4 lr (Nat.le_refl _) (by show 1 ≤ j; omega) b4 _ _ Q R4 (bud_sh.mp B4) (Nat.le_refl _) (FK_be (FK_sub kf (fun e he => by rw [g4]; exact he) xf.refl)) (fun j2 ws2 ks2 a2 h5 b5 p1 p2 R5 T5 X5 B5 => ?_)
  refine ks j2 (ws' ++ ws2) (ks' ++ ks2) a2 h5 b5 (by rw [g3, p1]; rfl) (g4.trans p2) R5 ?_ X5 (bud_sh.mpr B5)
  show isTs (neF w k) (Lp G (Rg n0 n1 rd (nmA u sz tx) h.1) h5) (2 + 2 * (8 - d)) a2 (res (wkF w k kt u sz) (ws' ++ ws2))
  have T5 : isTs (neF w k) (Lp G (Rg n0 n1 rd (nmA u sz tx) h.1) h5) (1 + 2 * (8 - d) + 1) a2 (res (wkF w k kt u sz) ws' ++ [] ++ res (wkF w k kt u sz) ws2) := T5
  rw [List.append_nil] at T5
  rw [res_app, show 2 + 2 * (8 - d) = 1 + 2 * (8 - d) + 1 by omega]
  exact T5
/-- the part of the loop behind the adding -/
def cont_test (G : sd_G) (D rd o f : Nat) : sd_M (Nat ⊕ Nat) := sd_bnd (sd_isC G 6 rd) fun _ => sd_bnd (fX7_takeIf G rd (sd_ad G 132)) fun r5 => if r5 = 0 then sd_ret (.inl o) else sd_loop (fun k s => fX7_test_b9 G (pRP G D) k s.1 s.2) f (rd, o)
theorem w_body_test {D f i cc c' v o l r cap : Nat} {mc : Int32} {ff : Nat → Option Nat} {ws : List (Nat × List (Int32 × Int32))} {h hs : sd_H} {b β : Nat × Nat} {r0 : PR} {Q : Nat ⊕ Nat → sd_H → Nat × Nat → Prop}
    (A : PW G u sz n0 tl ta tx rd w so m k ky nd iv kt n1 ((pRP G D).2.1 rd) 20 4 (fun s h' a j ws => isTs (neF w k) (Lp G (Rg n0 n1 rd (nmA u sz tx) s) h') (2 + 2 * (8 - d)) a ws) i d r0 h) (okA : ∀ j ws ks, r0 = .inl (j, ws, ks) → i + 1 ≤ j ∧ j ≤ nT u sz) (hw : wfH G hs) (X : xf rd (nmA u sz tx) hs h) (R : RW G u sz n0 tl ta tx rd w so m k ky nd iv kt n1 i d h) (hn : n1 ≤ hs.1) (S : SV G u sz n0 tx rd n1 (neF w k) false o l mc r cap ff ws (2 + 2 * (8 - d)) hs.1 h) (hr : r < h.1) (hlen : ws.length ≤ 400) (hb : bud β b (v + cc)) (hv : 50 * (nT u sz + 1 - i) ≤ v + 20) (hc : c' + 1 ≤ 4 + cc) (hc2 : 20 * c' + (2 * ws.length + 10) ≤ 20 * (4 + cc)) (kf : FK G u sz tx rd (wkF w k kt u sz) r0 h β Q)
    (kk : ∀ j ws' ks' a h' b' mc' r' cap' f', r0 = .inl (j, ws', ks') → fo (wkF w k kt u sz) r0 = none → RW G u sz n0 tl ta tx rd w so m k ky nd iv kt n1 j d h' → SV G u sz n0 tx rd n1 (neF w k) false o l mc' r' cap' f' (ws ++ [(a, res (wkF w k kt u sz) ws')]) (2 + 2 * (8 - d)) hs.1 h' → xf rd (nmA u sz tx) hs h' → r' < h'.1 → bud β b' (50 * (nT u sz + 1 - j) + c') → wp (cont_test G D rd o f) h' b' Q) : wp (sd_loop (fun k s => fX7_test_b9 G (pRP G D) k s.1 s.2) (f + 1) (rd, o)) h b Q := by
  show wp (fX7_test_b9 G (pRP G D) (sd_loop (fun k s => fX7_test_b9 G (pRP G D) k s.1 s.2) f) rd o) h b Q
  unfold fX7_test_b9
  have l0 : l < h.1 := (R.1.1 _ _ S.2.1.1).2
  rw [wp_bnd, wp_getR (sd_look_new S.1) rfl, wp_bnd, w_isC R]
  refine PW_bx A R (bud_sh.mp hb) hv (FK_be kf) (fun j ws' ks' a h3 b3 q1 q2 R3 T3 X3 B3 => ?_)
  obtain ⟨oj1, oj2⟩ := okA j ws' ks' q1
  have S3 := SV_xf R hn S X3
  have B3 := bud_sh.mpr B3
  rw [wp_bnd, wp_isC (sd_look_new S3.2.1.1), wp_bnd]
  refine w_add (v' := 50 * (nT u sz + 1 - j) + c') hw (X.trans X3) R3 hn S3 T3 l0 hr hlen B3 (by omega) (by omega) (fun h4 b4 mc' r' cap' f' R4 S4 X4 lr B4 => ?_)
  exact kk j ws' ks' a h4 b4 mc' r' cap' f' q1 q2 R4 S4 X4 lr B4
theorem w_testR {n D : Nat} (C : wlC G)
    (A : ∀ i r h, i ≤ nT u sz → pE (kdT u sz) (vlT u sz) n 7 i d = some r → okw w r → PW G u sz n0 tl ta tx rd w so m k ky nd iv kt n1 ((pRP G D).2.1 rd) 20 4 (fun s h' a j ws => isTs (neF w k) (Lp G (Rg n0 n1 rd (nmA u sz tx) s) h') (2 + 2 * (8 - d)) a ws) i d r h)
    (B : ∀ i r h f hs o l mc rr cap ff ws, i ≤ nT u sz → pE (kdT u sz) (vlT u sz) n 6 i d = some r → okw w r → nT u sz + 1 - i < f → wfH G hs → xf rd (nmA u sz tx) hs h → n1 ≤ hs.1 → SV G u sz n0 tx rd n1 (neF w k) false o l mc rr cap ff ws (2 + 2 * (8 - d)) hs.1 h → rr < h.1 → 1 ≤ ws.length → ws.length ≤ i → PB G u sz n0 tl ta tx rd w so m k ky nd iv kt n1 hs (cont_test G D rd o f) (fun h' a j w2 => isTs (neF w k) (Lp G (Rg n0 n1 rd (nmA u sz tx) hs.1) h') (2 + 2 * (8 - d) + 1) a (joiR false ws ++ w2)) i d r h) :
    ∀ i r h f hs o l mc rr cap ff ws, i ≤ nT u sz → pE (kdT u sz) (vlT u sz) (n + 1) 6 i d = some r → okw w r → nT u sz + 1 - i < f → wfH G hs → xf rd (nmA u sz tx) hs h → n1 ≤ hs.1 → SV G u sz n0 tx rd n1 (neF w k) false o l mc rr cap ff ws (2 + 2 * (8 - d)) hs.1 h → rr < h.1 → 1 ≤ ws.length → ws.length ≤ i → PB G u sz n0 tl ta tx rd w so m k ky nd iv kt n1 hs (cont_test G D rd o f) (fun h' a j w2 => isTs (neF w k) (Lp G (Rg n0 n1 rd (nmA u sz tx) hs.1) h') (2 + 2 * (8 - d) + 1) a (joiR false ws ++ w2)) i d r h := by
  intro i r h f hs o l mc rr cap ff ws hi hp ow hf hw X hn S hr h1 hle b β v Q R hb hv kf ks
  have hp : pTesR (kdT u sz) (pE (kdT u sz) (vlT u sz) n) i d = some r := hp
  have lN := nT_le (u := u) (sz := sz)
  unfold pTesR at hp
  unfold cont_test
  rw [wp_bnd, w_isC R, wp_bnd]
  refine w_tif C R hi (n := 132) (c := 26) (by decide) (fun h1' e R1 X1 nh1 => ?_) (fun e => ?_)
  · have hi1 := tk_lt31 hi e (by decide) (by decide)
    rw [if_pos e] at hp
    obtain ⟨r1, e1, ow1, pf1, nx1⟩ := sqc_go (wk := (wkF w k kt u sz)) wk_tot hp ow
    obtain ⟨r0, e0, ow0, pf0, nx0⟩ := sqc_go (wk := (wkF w k kt u sz)) wk_tot e1 ow1
    have okA : ∀ j ws ks, r0 = .inl (j, ws, ks) → i + 1 + 1 ≤ j ∧ j ≤ nT u sz := by
      intro j ws ks q1
      have := pE_ok tkT n 7 (i + 1) d r0 hi1 e0
      rw [q1] at this
      exact ⟨this.1, this.2.1⟩
    cases f with
    | zero => omega
    | succ f =>
      rw [wp_ite, if_neg (by decide)]
      refine w_body_test (cc := 45) (c' := 0) (v := v - 45) (A (i + 1) r0 h1' hi1 e0 ow0) okA hw (X.trans X1) R1 hn (SV_xf R hn S X1) (by omega) (by omega) (bud_le hb (by omega)) (by omega) (by omega) (by omega) (FK_sub kf (fun e he => pf1 e (pf0 e he)) (X.trans X1)) (fun j ws' ks' a h4 b4 mc' r' cap' f' q1 q2 R4 S4 X4 lr B4 => ?_)
      obtain ⟨rw1, f1, f2, f3, f4⟩ := nx0 j ws' ks' q1 q2
      unfold prW at f1
      cases f1
      obtain ⟨r9, g1, g2, g3, g4⟩ := nx1 j (ws' ++ [(26, 0)]) (ks' ++ []) f3 (f4.trans rfl)
      obtain ⟨oj1, oj2⟩ := okA j ws' ks' q1
      · refine B j r9 h4 f hs o l mc' r' cap' f' (ws ++ [(a, res (wkF w k kt u sz) ws')]) oj2 g1 g2 (by omega) hw X4 hn S4 lr (by rw [List.length_append]; omega) (by rw [List.length_append]; show ws.length + 1 ≤ j; omega) b4 β _ Q R4 B4 (by omega) (FK_sub kf (fun e he => by rw [g4]; exact he) xf.refl) (fun j2 ws2 ks2 a2 h5 b5 p1 p2 R5 T5 X5 B5 => ?_)
        refine ks j2 (ws' ++ [(26, 0)] ++ ws2) (ks' ++ [] ++ ks2) a2 h5 b5 (by rw [g3, p1]; rfl) (g4.trans p2) R5 ?_ X5 B5
        show isTs (neF w k) (Lp G (Rg n0 n1 rd (nmA u sz tx) hs.1) h5) (2 + 2 * (8 - d) + 1) a2 (joiR false ws ++ res (wkF w k kt u sz) (ws' ++ [(26, 0)] ++ ws2))
        rw [res_app, res_app, res_1 (by decide) (by decide) (by decide), ← List.append_assoc]
        have T5 : isTs (neF w k) (Lp G (Rg n0 n1 rd (nmA u sz tx) hs.1) h5) (2 + 2 * (8 - d) + 1) a2 (joiR false (ws ++ [(a, res (wkF w k kt u sz) ws')]) ++ res (wkF w k kt u sz) ws2) := T5
        rw [joiR_sn h1] at T5
        exact T5
  · rw [if_neg e] at hp
    cases hp
    rw [wp_ite, if_pos rfl, wp_ret]
    refine ks i [] [] o h b rfl rfl R ?_ X (bud_le hb (by omega))
    show isTs (neF w k) (Lp G (Rg n0 n1 rd (nmA u sz tx) hs.1) h) (2 + 2 * (8 - d) + 1) o (joiR false ws ++ [])
    rw [List.append_nil]
    exact SV_done R.1 S h1
theorem w_test {n D : Nat} (C : wlC G)
    (A : ∀ i r h, i ≤ nT u sz → pE (kdT u sz) (vlT u sz) n 7 i d = some r → okw w r → PW G u sz n0 tl ta tx rd w so m k ky nd iv kt n1 ((pRP G D).2.1 rd) 20 4 (fun s h' a j ws => isTs (neF w k) (Lp G (Rg n0 n1 rd (nmA u sz tx) s) h') (2 + 2 * (8 - d)) a ws) i d r h)
    (B : ∀ i r h f hs o l mc rr cap ff ws, i ≤ nT u sz → pE (kdT u sz) (vlT u sz) n 6 i d = some r → okw w r → nT u sz + 1 - i < f → wfH G hs → xf rd (nmA u sz tx) hs h → n1 ≤ hs.1 → SV G u sz n0 tx rd n1 (neF w k) false o l mc rr cap ff ws (2 + 2 * (8 - d)) hs.1 h → rr < h.1 → 1 ≤ ws.length → ws.length ≤ i → PB G u sz n0 tl ta tx rd w so m k ky nd iv kt n1 hs (cont_test G D rd o f) (fun h' a j w2 => isTs (neF w k) (Lp G (Rg n0 n1 rd (nmA u sz tx) hs.1) h') (2 + 2 * (8 - d) + 1) a (joiR false ws ++ w2)) i d r h) :
    ∀ i r h, i ≤ nT u sz → pE (kdT u sz) (vlT u sz) (n + 1) 5 i d = some r → okw w r → PW G u sz n0 tl ta tx rd w so m k ky nd iv kt n1 ((pRP G (D + 1)).1 rd) 10 3 (fun s h' a j ws => isTs (neF w k) (Lp G (Rg n0 n1 rd (nmA u sz tx) s) h') (3 + 2 * (8 - d)) a ws) i d r h := by
  intro i r h hi hp ow b β v Q R hb hv kf ks
  have hp : sqc (pE (kdT u sz) (vlT u sz) n 7 i d) (fun j => pE (kdT u sz) (vlT u sz) n 6 j d) = some r := hp
  obtain ⟨r0, e0, ow0, pf0, nx0⟩ := sqc_go (wk := (wkF w k kt u sz)) wk_tot hp ow
  have okA : ∀ j ws ks, r0 = .inl (j, ws, ks) → i + 1 ≤ j ∧ j ≤ nT u sz := by
    intro j ws ks q1
    have := pE_ok tkT n 7 i d r0 hi e0
    rw [q1] at this
    exact ⟨this.1, this.2.1⟩
  have lN := nT_le (u := u) (sz := sz)
  have hb1 := hb.1
  have hb2 := hb.2
  have l1 := R.2.1
  show wp (fX7_test G (pRP G D) rd) h b Q
  unfold fX7_test
  rw [wp_bnd]
  refine wp_new (by omega) (by omega) ?_
  have R1 : RW G u sz n0 tl ta tx rd w so m k ky nd iv kt n1 i d (sd_pu h (.inr (18, [.int 0, .null]))) := RW_pu R
  rw [wp_bnd]
  unfold fX20_init
  simp only [wp_bnd]
  refine g_new R1.1 (by show 1 ≤ b.1 - 1; omega) (by show 3 ≤ b.2 - 2; omega) ?_
  have R2 : RW G u sz n0 tl ta tx rd w so m k ky nd iv kt n1 i d (sd_pu (sd_pu h (.inr (18, [.int 0, .null]))) (aL 0 (sd_ad G 0) 0)) := RW_pu R1
  have o2 : (sd_pu (sd_pu h (.inr (18, [.int 0, .null]))) (aL 0 (sd_ad G 0) 0)).2 h.1 = some (.inr (18, [.int 0, .null])) := (pu_ne (by show h.1 ≠ h.1 + 1; omega)).trans (pu_at _ _)
  rw [wp_put o2 (Nat.le_of_ble_eq_true rfl) rfl rfl, wp_put (up_at _ _ _) (Nat.le_of_ble_eq_true rfl) rfl rfl, wp_ret, up_up]
  have R3 : RW G u sz n0 tl ta tx rd w so m k ky nd iv kt n1 i d (sd_up (sd_pu (sd_pu h (.inr (18, [.int 0, .null]))) (aL 0 (sd_ad G 0) 0)) h.1 (.inr (18, [.int (bI false), .ref (h.1 + 1)]))) := RW_up R2 o2 l1
  have X3 : xf rd (nmA u sz tx) h (sd_up (sd_pu (sd_pu h (.inr (18, [.int 0, .null]))) (aL 0 (sd_ad G 0) 0)) h.1 (.inr (18, [.int (bI false), .ref (h.1 + 1)]))) := xf_upn R.1 ((xf_pu R.1).trans (xf_pu R1.1)) (Nat.le_refl _)
  have S3 : SV G u sz n0 tx rd n1 (neF w k) false h.1 (h.1 + 1) 0 (sd_ad G 0) 0 (fun _ => none) [] (2 + 2 * (8 - d)) h.1 (sd_up (sd_pu (sd_pu h (.inr (18, [.int 0, .null]))) (aL 0 (sd_ad G 0) 0)) h.1 (.inr (18, [.int (bI false), .ref (h.1 + 1)]))) := ⟨up_at _ _ _, ⟨(up_ne (by omega)).trans (pu_at _ _), Or.inl ⟨rfl, rfl, rfl⟩, Nat.le_refl _, by omega⟩, Nat.le_refl _, by omega, Or.inl rfl, fun q p hq => by cases hq⟩
  have z0 := (wfH_z0 R.1).2
  have z1 := R.1.2.1
  have hr3 : sd_ad G 0 < (sd_up (sd_pu (sd_pu h (.inr (18, [.int 0, .null]))) (aL 0 (sd_ad G 0) 0)) h.1 (.inr (18, [.int (bI false), .ref (h.1 + 1)]))).1 := by
    show sd_ad G 0 < h.1 + 1 + 1
    omega
  show wp (sd_loop (fun k s => fX7_test_b9 G (pRP G D) k s.1 s.2) (999999 + 1) (rd, h.1)) (sd_up (sd_pu (sd_pu h (.inr (18, [.int 0, .null]))) (aL 0 (sd_ad G 0) 0)) h.1 (.inr (18, [.int (bI false), .ref (h.1 + 1)]))) (b.1 - 1 - 1, b.2 - 2 - 3) Q
  have hb3 : bud β (b.1 - 1 - 1, b.2 - 2 - 3) (v - 2 + 0) := ⟨by simp only; omega, by simp only; omega⟩
  generalize sd_up (sd_pu (sd_pu h (.inr (18, [.int 0, .null]))) (aL 0 (sd_ad G 0) 0)) h.1 (.inr (18, [.int (bI false), .ref (h.1 + 1)])) = h3 at R3 X3 S3 hr3 ⊢
  refine w_body_test (cc := 0) (c' := 3) (v := v - 2) (A i r0 h3 hi e0 ow0) okA R.1 X3 R3 l1 S3 hr3 (Nat.zero_le _) hb3 (by omega) (by omega) (by show 20 * 3 + (2 * 0 + 10) ≤ _; omega) (FK_sub kf pf0 X3) (fun j ws' ks' a h4 b4 mc' r' cap' f' q1 q2 R4 S4 X4 lr B4 => ?_)
  obtain ⟨r9, g1, g2, g3, g4⟩ := nx0 j ws' ks' q1 q2
  obtain ⟨oj1, oj2⟩ := okA j ws' ks' q1
  refine B j r9 h4 999999 h h.1 (h.1 + 1) mc' r' cap' f' ([] ++ [(a, res (wkF w k kt u sz) ws')]) oj2 g1 g2 (by omega) R.1 X4 l1 S4 lr (Nat.le_refl _) (by show 1 ≤ j; omega) b4 _ _ Q R4 (bud_sh.mp B4) (Nat.le_refl _) (FK_be (FK_sub kf (fun e he => by rw [g4]; exact he) xf.refl)) (fun j2 ws2 ks2 a2 h5 b5 p1 p2 R5 T5 X5 B5 => ?_)
  refine ks j2 (ws' ++ ws2) (ks' ++ ks2) a2 h5 b5 (by rw [g3, p1]; rfl) (g4.trans p2) R5 ?_ X5 (bud_sh.mpr B5)
  show isTs (neF w k) (Lp G (Rg n0 n1 rd (nmA u sz tx) h.1) h5) (3 + 2 * (8 - d)) a2 (res (wkF w k kt u sz) (ws' ++ ws2))
  have T5 : isTs (neF w k) (Lp G (Rg n0 n1 rd (nmA u sz tx) h.1) h5) (2 + 2 * (8 - d) + 1) a2 (res (wkF w k kt u sz) ws' ++ [] ++ res (wkF w k kt u sz) ws2) := T5
  rw [List.append_nil] at T5
  rw [res_app, show 3 + 2 * (8 - d) = 2 + 2 * (8 - d) + 1 by omega]
  exact T5
end WTS
