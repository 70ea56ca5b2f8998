/-! THE PLAIN LAW: component and model side by side; the law's cases -/
theorem cM_isM {ad : Nat → Nat} {v : Nat → Int32} {x : Nat → Nat → Int32} {y : Nat → Nat → Int64} {i : Nat} : isM (cM ad v x y i) = true := by
  unfold cM
  split
  · rfl
  · split
    · rfl
    · split
      · rfl
      · unfold mty
        split <;> rfl
/-- the component's frame, but for one address -/
def frO (h h' : sd_H) (E1 E2 o : Nat) : Prop := h.1 ≤ h'.1 ∧ ∀ a e, h.2 a = some e → isM e = true → a ≠ E1 → a ≠ E2 → a ≠ o → h'.2 a = some e
theorem fr.O {h h' : sd_H} {E1 E2 o : Nat} (f : fr h h' E1 E2) : frO h h' E1 E2 o := ⟨f.1, fun a e h1 h2 h3 h4 _ => f.2 a e h1 h2 h3 h4⟩
def LI (G : sd_G) (cx tp bt s0 E1 : Nat) (B : Nat → Nat) (Z : Nat → Prop) (q : Nat → Nat) (x : Nat → Nat → Int32) (ea : Int32) (sz : Nat) (bs : Nat → Int32) (ρ : Nat → Option Nat) (ad : Nat → Nat) (th : Int32) (o : Nat) (h : sd_H) (t : TT) : Prop := CI G cx tp bt s0 E1 B Z q x ea sz bs h t ∧ MI ρ ad q x ea sz th h t ∧ ρ E1 = none ∧ ρ (B 1) = none ∧ ρ o = none ∧ o ≠ E1 ∧ o ≠ B 1 ∧ (∃ g, h.2 o = some (.inl (1, 1, .inr (.inl g)))) ∧ (∀ k, k < sz → x 1 k = bs k &&& 255) ∧ sz ≤ 2000
theorem anT_ne (d : Nat) : ¬ anT (.inr d) = 0 := by
  show ¬ (if d = 48 then (2 : Int32) else 1) = 0
  split <;> decide
section LAW
variable {t t' : TT} {b : Nat × Nat} {G : sd_G} {cx tp bt s0 E1 : Nat} {B : Nat → Nat} {Z : Nat → Prop} {q : Nat → Nat} {x : Nat → Nat → Int32} {ea : Int32} {sz : Nat} {bs : Nat → Int32} {h h' : sd_H} {ρ : Nat → Option Nat} {ad : Nat → Nat} {th : Int32} {o : Nat}
theorem MI_keep (M : MI ρ ad q x ea sz th h t) (hn : h.1 ≤ h'.1) (hk : ∀ a i, ρ a = some i → h'.2 a = h.2 a) : MI ρ ad q x ea sz th h' t := by
  obtain ⟨n, K, v, y, κ, g, rfl, E, hp, hv, hP, hO, ok, h0, h2, h3⟩ := M
  refine ⟨h'.1, h'.2, v, y, κ, g, ?_, ⟨E.1, E.2.1, fun a i ha => Nat.lt_of_lt_of_le (E.2.2 a i ha) hn⟩, hp, hv, hP, hO, ok, h0, h2, h3⟩
  refine Prod.ext rfl (funext fun a => ?_)
  cases hr : ρ a with
  | some i =>
    rw [hk a i hr]
    unfold hMo
    rw [nh_at hr, nh_at hr]
  | none =>
    unfold hMo
    rw [nh_out hr]
theorem MI_at {a i : Nat} (M : MI ρ ad q x ea sz th h t) (hr : ρ a = some i) : ∃ e, h.2 a = some e ∧ isM e = true := by
  obtain ⟨n, K, v, y, κ, g, rfl, E, -⟩ := M
  exact ⟨_, nh_at hr, cM_isM⟩
theorem MI_frO (M : MI ρ ad q x ea sz th h t) (f : frO h h' E1 (B 1) o) (n1 : ρ E1 = none) (n2 : ρ (B 1) = none) (n3 : ρ o = none) : MI ρ ad q x ea sz th h' t := by
  refine MI_keep M f.1 (fun a i hr => ?_)
  obtain ⟨e, h1, h2⟩ := MI_at M hr
  rw [f.2 a e h1 h2 (fun c => by rw [c, n1] at hr; cases hr) (fun c => by rw [c, n2] at hr; cases hr) (fun c => by rw [c, n3] at hr; cases hr), h1]
theorem CI_mf {q' : Nat → Nat} {x' : Nat → Nat → Int32} {ea' : Int32} {sz' : Nat} (C : CI G cx tp bt s0 E1 B Z q x ea sz bs h t') (M : MI ρ ad q' x' ea' sz' th h t) (f : mf G ρ h h') (n1 : ρ E1 = none) (n2 : ρ (B 1) = none) : CI G cx tp bt s0 E1 B Z q x ea sz bs h' t' := by
  refine CI_keep C (f.2.2 C.1) f.1 (fun a ha hk => f.2.1 a ha ?_)
  cases hr : ρ a with
  | none => rfl
  | some i =>
    obtain ⟨e, h1, h2⟩ := MI_at M hr
    rcases hk e h1 with c | c | c
    · rw [h2] at c
      cases c
    · rw [c, n1] at hr
      cases hr
    · rw [c, n2] at hr
      cases hr
theorem m_isC (M : MI ρ ad q x ea sz th h t) {Q : Unit → sd_H → Nat × Nat → Prop} : wp (sd_isC G 4 (ad 0)) h b Q = Q () h b := by
  obtain ⟨n, K, v, y, κ, g, rfl, E, -⟩ := M
  exact hMo_isC4 E
theorem m_thr (M : MI ρ ad q x ea sz th h t) {Q : Int32 → sd_H → Nat × Nat → Prop} : wp (fX5_thrown G (ad 0)) h b Q = Q th h b := by
  obtain ⟨n, K, v, y, κ, g, rfl, E, hp, hv, hP, hO, ok, h0, h2, h3⟩ := M
  rw [m_thrown E, h0]
/-- what a wrapper does -/
def WC (G : sd_G) (cx tp bt s0 E1 : Nat) (B : Nat → Nat) (Z : Nat → Prop) (q : Nat → Nat) (x : Nat → Nat → Int32) (ea : Int32) (sz : Nat) (bs : Nat → Int32) (o : Nat) (w : sd_M Int32) (h : sd_H) (t' : TT) (A : Int32 ⊕ Nat) (cv : Int32 → Int64) : Prop := ∀ (b : Nat × Nat) (Q : Int32 → sd_H → Nat × Nat → Prop), 2500 ≤ b.1 → 30000 ≤ b.2 → (∀ h' b', CI G cx tp bt s0 E1 B Z q x ea sz bs h' t' → frO h h' E1 (B 1) o → (∃ g, h'.2 o = some (.inl (1, 1, .inr (.inl g))) ∧ ∀ v, A = .inl v → g 0 = cv v) → b.1 ≤ b'.1 + 2500 → b.2 ≤ b'.2 + 30000 → Q (anT A) h' b') → wp w h b Q
/-- the exceptions that are caught -/
def catO (A : Int32 ⊕ Nat) (HX : Nat → sd_M Int32) : Prop := ∀ e d h b Q, A = .inr d → h.2 e = some (.inr (d, [])) → wp (HX e) h b Q = Q (anT A) h b
def cvB (v : Int32) : Int64 := if v = 0 then 0 else 1
theorem w_go {f : sd_M (Int32 ⊕ Nat)} {HX : Nat → sd_M Int32} {KK : Int32 → sd_M Int32} {A : Int32 ⊕ Nat} {cv : Int32 → Int64} (L : LI G cx tp bt s0 E1 B Z q x ea sz bs ρ ad th o h t) (F : CO G cx tp bt s0 E1 B Z q x ea sz bs f h t' (fun h' r => AN h' r A)) (hx : catO A HX) (hK : ∀ v h b Q g, h.2 o = some (.inl (1, 1, .inr (.inl g))) → wp (KK v) h b Q = Q 0 (sd_up h o (.inl (1, 1, .inr (.inl (vp_updL g 0 (cv v)))))) b) : WC G cx tp bt s0 E1 B Z q x ea sz bs o (sd_bnd (sd_isC G 0 cx) fun _ => sd_bx f HX KK) h t' A cv := by
  obtain ⟨C, M, n1, n2, n3, n4, n5, ⟨g, ho⟩, -, -⟩ := L
  intro b Q b1 b2 kk
  rw [wp_bnd, (c_rd C).1, wp_bx]
  refine F b _ b1 b2 (fun r h' b' C' f' y1 y2 an => ?_)
  have ho' := f'.2 o _ ho rfl n4 n5
  cases r with
  | inl v =>
    cases A with
    | inr d => exact an.elim
    | inl w =>
      have an : v = w := an
      subst an
      show wp (KK v) h' b' Q
      rw [hK v h' b' Q g ho']
      refine kk _ _ (CI_up C' ho' rfl n4 n5) ⟨f'.1, fun a e h1 h2 h3 h4 h5 => ?_⟩ ⟨_, up_at _ _ _, fun v' e => ?_⟩ y1 y2
      · rw [up_ne h5]
        exact f'.2 a e h1 h2 h3 h4
      · cases e
        exact if_pos rfl
  | inr e =>
    cases A with
    | inl w => exact an.elim
    | inr d =>
      have an : h'.2 e = some (.inr (d, [])) := an
      show wp (HX e) h' b' Q
      rw [hx e d h' b' Q rfl an]
      exact kk _ _ C' f'.O ⟨g, ho', fun v e => by cases e⟩ y1 y2
theorem st_out {v : Int64} {g : Nat → Int64} {Q : Unit → sd_H → Nat × Nat → Prop} (ho : h.2 o = some (.inl (1, 1, .inr (.inl g)))) : wp (sd_astL o 0 v) h b Q = Q () (sd_up h o (.inl (1, 1, .inr (.inl (vp_updL g 0 v))))) b := wp_astL ho (by decide)
theorem w_int {f : sd_M (Int32 ⊕ Nat)} {HX : Nat → sd_M Int32} {A : Int32 ⊕ Nat} (L : LI G cx tp bt s0 E1 B Z q x ea sz bs ρ ad th o h t) (F : CO G cx tp bt s0 E1 B Z q x ea sz bs f h t' (fun h' r => AN h' r A)) (hx : catO A HX) : WC G cx tp bt s0 E1 B Z q x ea sz bs o (sd_bnd (sd_isC G 0 cx) fun _ => sd_bx f HX fun r1 => sd_bnd (sd_astL o 0 (r1.toInt64)) fun _ => sd_ret 0) h t' A Int32.toInt64 := by
  refine w_go L F hx (fun v h b Q g ho => ?_)
  rw [wp_bnd, st_out ho, wp_ret]
theorem w_bool {f : sd_M (Int32 ⊕ Nat)} {HX : Nat → sd_M Int32} {A : Int32 ⊕ Nat} (L : LI G cx tp bt s0 E1 B Z q x ea sz bs ρ ad th o h t) (F : CO G cx tp bt s0 E1 B Z q x ea sz bs f h t' (fun h' r => AN h' r A)) (hx : catO A HX) : WC G cx tp bt s0 E1 B Z q x ea sz bs o (sd_bnd (sd_isC G 0 cx) fun _ => sd_bx f HX fun r1 => if r1 = 0 then (sd_bnd (sd_astL o 0 0) fun _ => sd_ret 0) else (sd_bnd (sd_astL o 0 1) fun _ => sd_ret 0)) h t' A cvB := by
  refine w_go L F hx (fun v h b Q g ho => ?_)
  unfold cvB
  rw [wp_ite]
  by_cases c : v = 0
  · rw [if_pos c, if_pos c, wp_bnd, st_out ho, wp_ret]
  · rw [if_neg c, if_neg c, wp_bnd, st_out ho, wp_ret]
theorem lg_refl (a : Int64) : lg_cmp a a = 0 := by
  unfold lg_cmp
  simp
theorem LI_mo (L : LI G cx tp bt s0 E1 B Z q x ea sz bs ρ ad th o h t) {th' : Int32} (C : CI G cx tp bt s0 E1 B Z q x ea sz bs h' t') {h'' : sd_H} (fO : frO h h' E1 (B 1) o) (M'' : MI ρ ad q x ea sz th' h'' t') (f : mf G ρ h' h'') (ho : ∃ g, h'.2 o = some (.inl (1, 1, .inr (.inl g)))) : LI G cx tp bt s0 E1 B Z q x ea sz bs ρ ad th' o h'' t' ∧ h''.2 o = h'.2 o := by
  obtain ⟨-, M, n1, n2, n3, n4, n5, -, tp, sz⟩ := L
  have M' := MI_frO M fO n1 n2 n3
  obtain ⟨g, ho⟩ := ho
  have e : h''.2 o = h'.2 o := f.2.1 o (C.1.1 _ _ ho).2 n3
  exact ⟨⟨CI_mf C M' f n1 n2, M'', n1, n2, n3, n4, n5, ⟨g, e.trans ho⟩, tp, sz⟩, e⟩
/-- the script can be read -/
def rdS (G : sd_G) (w0 : Nat) (i z : Int32) : Prop := ∀ h b (Q : Int32 → sd_H → Nat × Nat → Prop), wfH G h → wp (sd_aldI G 0 w0 i) h b Q = Q z h b
/-- a call that can throw, with a number -/
theorem law_I {fw N : sd_M Int32} {fm : Int32 → sd_M Int32} {w0 : Nat} {i z : Int32} {A : Int32 ⊕ Nat} {Q : Int32 → sd_H → Nat × Nat → Prop} (L : LI G cx tp bt s0 E1 B Z q x ea sz bs ρ ad th o h t) (rd : rdS G w0 i z) (Hw : WC G cx tp bt s0 E1 B Z q x ea sz bs o fw h t' A Int32.toInt64) (Hm : ∀ h', MI ρ ad q x ea sz th h' t → MO G ρ ad q x ea sz (fm z) h' t' (anT A) (anV A)) (b1 : 2600 ≤ b.1) (b2 : 31000 ≤ b.2) (kk : ∀ h' b', LI G cx tp bt s0 E1 B Z q x ea sz bs ρ ad (anT A) o h' t' → b.1 ≤ b'.1 + 2600 → b.2 ≤ b'.2 + 31000 → wp N h' b' Q) :
    wp (sd_bnd fw fun r24 => sd_bnd (sd_aldI G 0 w0 i) fun v25 => sd_bnd (sd_isC G 4 (ad 0)) fun _ => sd_bnd (fm v25) fun r26 => sd_bnd (sd_isC G 4 (ad 0)) fun _ => sd_bnd (fX5_thrown G (ad 0)) fun r27 => if r27 = r24 then (if r24 = 0 then (sd_bnd (sd_aldL G o 0) fun v29 => if lg_cmp v29 (r26.toInt64) = 0 then N else sd_ret 0) else N) else sd_ret 0) h b Q := by
  have L0 := L
  obtain ⟨C, M, n1, n2, n3, n4, n5, -, -, -⟩ := L
  rw [wp_bnd]
  refine Hw b _ (by omega) (by omega) (fun h' b' C' f' ho y1 y2 => ?_)
  have M' := MI_frO M f' n1 n2 n3
  rw [wp_bnd, rd h' b' _ C'.1, wp_bnd, m_isC M', wp_bnd]
  refine Hm h' M' b' _ (by omega) (by omega) (fun h'' b'' M'' f'' y3 y4 => ?_)
  obtain ⟨g, ho, hv⟩ := ho
  obtain ⟨L'', e⟩ := LI_mo L0 C' f' M'' f'' ⟨g, ho⟩
  have k9 := kk h'' b'' L'' (by omega) (by omega)
  rw [wp_bnd, m_isC M'', wp_bnd, m_thr M'', wp_ite, if_pos rfl, wp_ite]
  cases A with
  | inl v =>
    rw [if_pos (show anT (.inl v) = 0 from rfl), wp_bnd, wp_aldL (n := 1) (f := g) (sd_look_new (e.trans ho)) (by decide), wp_ite, if_pos]
    · exact k9
    · show lg_cmp (g 0) v.toInt64 = 0
      rw [hv v rfl]
      exact lg_refl _
  | inr d =>
    rw [if_neg]
    · exact k9
    · exact anT_ne d
/-- with a truth value -/
theorem law_B {fw N : sd_M Int32} {fm : Int32 → sd_M Int32} {w0 : Nat} {i z : Int32} {A : Int32 ⊕ Nat} {Q : Int32 → sd_H → Nat × Nat → Prop} (L : LI G cx tp bt s0 E1 B Z q x ea sz bs ρ ad th o h t) (rd : rdS G w0 i z) (Hw : WC G cx tp bt s0 E1 B Z q x ea sz bs o fw h t' A cvB) (Hm : ∀ h', MI ρ ad q x ea sz th h' t → MO G ρ ad q x ea sz (fm z) h' t' (anT A) (anV A)) (b1 : 2600 ≤ b.1) (b2 : 31000 ≤ b.2) (kk : ∀ h' b', LI G cx tp bt s0 E1 B Z q x ea sz bs ρ ad (anT A) o h' t' → b.1 ≤ b'.1 + 2600 → b.2 ≤ b'.2 + 31000 → wp N h' b' Q) :
    wp (sd_bnd fw fun r24 => sd_bnd (sd_aldI G 0 w0 i) fun v25 => sd_bnd (sd_isC G 4 (ad 0)) fun _ => sd_bnd (fm v25) fun r26 => sd_bnd (sd_isC G 4 (ad 0)) fun _ => sd_bnd (fX5_thrown G (ad 0)) fun r27 => if r27 = r24 then (if r24 = 0 then (sd_bnd (sd_aldL G o 0) fun v29 => if r26 = 0 then (if lg_cmp v29 0 = 0 then N else sd_ret 0) else (if lg_cmp v29 1 = 0 then N else sd_ret 0)) else N) else sd_ret 0) h b Q := by
  have L0 := L
  obtain ⟨C, M, n1, n2, n3, n4, n5, -, -, -⟩ := L
  rw [wp_bnd]
  refine Hw b _ (by omega) (by omega) (fun h' b' C' f' ho y1 y2 => ?_)
  have M' := MI_frO M f' n1 n2 n3
  rw [wp_bnd, rd h' b' _ C'.1, wp_bnd, m_isC M', wp_bnd]
  refine Hm h' M' b' _ (by omega) (by omega) (fun h'' b'' M'' f'' y3 y4 => ?_)
  obtain ⟨g, ho, hv⟩ := ho
  obtain ⟨L'', e⟩ := LI_mo L0 C' f' M'' f'' ⟨g, ho⟩
  have k9 := kk h'' b'' L'' (by omega) (by omega)
  rw [wp_bnd, m_isC M'', wp_bnd, m_thr M'', wp_ite, if_pos rfl, wp_ite]
  cases A with
  | inl v =>
    rw [if_pos (show anT (.inl v) = 0 from rfl), wp_bnd, wp_aldL (n := 1) (f := g) (sd_look_new (e.trans ho)) (by decide), wp_ite]
    have hv : g 0 = cvB v := hv v rfl
    unfold cvB at hv
    show if v = 0 then _ else _
    by_cases c : v = 0
    · rw [if_pos c] at hv ⊢
      rw [wp_ite, if_pos]
      · exact k9
      · show lg_cmp (g 0) 0 = 0
        rw [hv]
        exact lg_refl _
    · rw [if_neg c] at hv ⊢
      rw [wp_ite, if_pos]
      · exact k9
      · show lg_cmp (g 0) 1 = 0
        rw [hv]
        exact lg_refl _
  | inr d =>
    rw [if_neg]
    · exact k9
    · exact anT_ne d
/-- with a truth value, two arguments -/
theorem law_B2 {fw N : sd_M Int32} {fm : Int32 → Int32 → sd_M Int32} {w0 : Nat} {i i2 z z2 : Int32} {A : Int32 ⊕ Nat} {Q : Int32 → sd_H → Nat × Nat → Prop} (L : LI G cx tp bt s0 E1 B Z q x ea sz bs ρ ad th o h t) (rd : rdS G w0 i z) (rd2 : rdS G w0 i2 z2) (Hw : WC G cx tp bt s0 E1 B Z q x ea sz bs o fw h t' A cvB) (Hm : ∀ h', MI ρ ad q x ea sz th h' t → MO G ρ ad q x ea sz (fm z z2) h' t' (anT A) (anV A)) (b1 : 2600 ≤ b.1) (b2 : 31000 ≤ b.2) (kk : ∀ h' b', LI G cx tp bt s0 E1 B Z q x ea sz bs ρ ad (anT A) o h' t' → b.1 ≤ b'.1 + 2600 → b.2 ≤ b'.2 + 31000 → wp N h' b' Q) :
    wp (sd_bnd fw fun r24 => sd_bnd (sd_aldI G 0 w0 i) fun v25 => sd_bnd (sd_aldI G 0 w0 i2) fun v26 => sd_bnd (sd_isC G 4 (ad 0)) fun _ => sd_bnd (fm v25 v26) fun r26 => sd_bnd (sd_isC G 4 (ad 0)) fun _ => sd_bnd (fX5_thrown G (ad 0)) fun r27 => if r27 = r24 then (if r24 = 0 then (sd_bnd (sd_aldL G o 0) fun v29 => if r26 = 0 then (if lg_cmp v29 0 = 0 then N else sd_ret 0) else (if lg_cmp v29 1 = 0 then N else sd_ret 0)) else N) else sd_ret 0) h b Q := by
  have L0 := L
  obtain ⟨C, M, n1, n2, n3, n4, n5, -, -, -⟩ := L
  rw [wp_bnd]
  refine Hw b _ (by omega) (by omega) (fun h' b' C' f' ho y1 y2 => ?_)
  have M' := MI_frO M f' n1 n2 n3
  rw [wp_bnd, rd h' b' _ C'.1, wp_bnd, rd2 h' b' _ C'.1, wp_bnd, m_isC M', wp_bnd]
  refine Hm h' M' b' _ (by omega) (by omega) (fun h'' b'' M'' f'' y3 y4 => ?_)
  obtain ⟨g, ho, hv⟩ := ho
  obtain ⟨L'', e⟩ := LI_mo L0 C' f' M'' f'' ⟨g, ho⟩
  have k9 := kk h'' b'' L'' (by omega) (by omega)
  rw [wp_bnd, m_isC M'', wp_bnd, m_thr M'', wp_ite, if_pos rfl, wp_ite]
  cases A with
  | inl v =>
    rw [if_pos (show anT (.inl v) = 0 from rfl), wp_bnd, wp_aldL (n := 1) (f := g) (sd_look_new (e.trans ho)) (by decide), wp_ite]
    have hv : g 0 = cvB v := hv v rfl
    unfold cvB at hv
    show if v = 0 then _ else _
    by_cases c : v = 0
    · rw [if_pos c] at hv ⊢
      rw [wp_ite, if_pos]
      · exact k9
      · show lg_cmp (g 0) 0 = 0
        rw [hv]
        exact lg_refl _
    · rw [if_neg c] at hv ⊢
      rw [wp_ite, if_pos]
      · exact k9
      · show lg_cmp (g 0) 1 = 0
        rw [hv]
        exact lg_refl _
  | inr d =>
    rw [if_neg]
    · exact k9
    · exact anT_ne d
/-- a number asked of both -/
theorem law_P {fm N : sd_M Int32} {r : Int32} {fc : sd_M Int32} {Q : Int32 → sd_H → Nat × Nat → Prop} (L : LI G cx tp bt s0 E1 B Z q x ea sz bs ρ ad th o h t) (Hc : ∀ (b : Nat × Nat) (Q : Int32 → sd_H → Nat × Nat → Prop), 2500 ≤ b.1 → 30000 ≤ b.2 → (∀ h' b', CI G cx tp bt s0 E1 B Z q x ea sz bs h' t → fr h h' E1 (B 1) → b.1 ≤ b'.1 + 2500 → b.2 ≤ b'.2 + 30000 → Q r h' b') → wp fc h b Q) (Hm : ∀ h', MI ρ ad q x ea sz th h' t → MO G ρ ad q x ea sz fm h' t 0 r) (b1 : 2600 ≤ b.1) (b2 : 31000 ≤ b.2) (kk : ∀ h' b', LI G cx tp bt s0 E1 B Z q x ea sz bs ρ ad 0 o h' t → b.1 ≤ b'.1 + 2600 → b.2 ≤ b'.2 + 31000 → wp N h' b' Q) :
    wp (sd_bnd (sd_isC G 0 cx) fun _ => sd_bnd fc fun r34 => sd_bnd (sd_isC G 4 (ad 0)) fun _ => sd_bnd fm fun r35 => if r34 = r35 then N else sd_ret 0) h b Q := by
  have L0 := L
  obtain ⟨C, M, n1, n2, n3, n4, n5, ⟨g, ho⟩, -, -⟩ := L
  rw [wp_bnd, (c_rd C).1, wp_bnd]
  refine Hc b _ (by omega) (by omega) (fun h' b' C' f' y1 y2 => ?_)
  have M' := MI_frO M (f'.O (o := o)) n1 n2 n3
  rw [wp_bnd, m_isC M', wp_bnd]
  refine Hm h' M' b' _ (by omega) (by omega) (fun h'' b'' M'' f'' y3 y4 => ?_)
  obtain ⟨L'', -⟩ := LI_mo L0 C' f'.O M'' f'' ⟨g, f'.2 o _ ho rfl n4 n5⟩
  rw [wp_ite, if_pos rfl]
  exact kk h'' b'' L'' (by omega) (by omega)
/-- the digests -/
theorem law_D {fm : sd_M Int64} {N : sd_M Int32} {r : Int64} {fc : sd_M Int64} {Q : Int32 → sd_H → Nat × Nat → Prop} (L : LI G cx tp bt s0 E1 B Z q x ea sz bs ρ ad th o h t) (Hc : ∀ (b : Nat × Nat) (Q : Int64 → sd_H → Nat × Nat → Prop), 2500 ≤ b.1 → 30000 ≤ b.2 → (∀ h' b', CI G cx tp bt s0 E1 B Z q x ea sz bs h' t → fr h h' E1 (B 1) → b.1 ≤ b'.1 + 2500 → b.2 ≤ b'.2 + 30000 → Q r h' b') → wp fc h b Q) (Hm : ∀ h', MI ρ ad q x ea sz th h' t → MO G ρ ad q x ea sz fm h' t 0 r) (b1 : 2600 ≤ b.1) (b2 : 31000 ≤ b.2) (kk : ∀ h' b', LI G cx tp bt s0 E1 B Z q x ea sz bs ρ ad 0 o h' t → b.1 ≤ b'.1 + 2600 → b.2 ≤ b'.2 + 31000 → wp N h' b' Q) :
    wp (sd_bnd (sd_isC G 0 cx) fun _ => sd_bnd fc fun r34 => sd_bnd (sd_isC G 4 (ad 0)) fun _ => sd_bnd fm fun r35 => if lg_cmp r34 r35 = 0 then N else sd_ret 0) h b Q := by
  have L0 := L
  obtain ⟨C, M, n1, n2, n3, n4, n5, ⟨g, ho⟩, -, -⟩ := L
  rw [wp_bnd, (c_rd C).1, wp_bnd]
  refine Hc b _ (by omega) (by omega) (fun h' b' C' f' y1 y2 => ?_)
  have M' := MI_frO M (f'.O (o := o)) n1 n2 n3
  rw [wp_bnd, m_isC M', wp_bnd]
  refine Hm h' M' b' _ (by omega) (by omega) (fun h'' b'' M'' f'' y3 y4 => ?_)
  obtain ⟨L'', -⟩ := LI_mo L0 C' f'.O M'' f'' ⟨g, f'.2 o _ ho rfl n4 n5⟩
  rw [wp_ite, if_pos (lg_refl _)]
  exact kk h'' b'' L'' (by omega) (by omega)
/-- the mean years -/
theorem law_Y {fm : sd_M UInt64} {N : sd_M Int32} {r : UInt64} {fc : sd_M UInt64} {Q : Int32 → sd_H → Nat × Nat → Prop} (L : LI G cx tp bt s0 E1 B Z q x ea sz bs ρ ad th o h t) (Hc : ∀ (b : Nat × Nat) (Q : UInt64 → sd_H → Nat × Nat → Prop), 2500 ≤ b.1 → 30000 ≤ b.2 → (∀ h' b', CI G cx tp bt s0 E1 B Z q x ea sz bs h' t → fr h h' E1 (B 1) → b.1 ≤ b'.1 + 2500 → b.2 ≤ b'.2 + 30000 → Q r h' b') → wp fc h b Q) (Hm : ∀ h', MI ρ ad q x ea sz th h' t → MO G ρ ad q x ea sz fm h' t 0 r) (b1 : 2600 ≤ b.1) (b2 : 31000 ≤ b.2) (kk : ∀ h' b', LI G cx tp bt s0 E1 B Z q x ea sz bs ρ ad 0 o h' t → b.1 ≤ b'.1 + 2600 → b.2 ≤ b'.2 + 31000 → wp N h' b' Q) :
    wp (sd_bnd (sd_isC G 0 cx) fun _ => sd_bnd fc fun r34 => sd_bnd (sd_isC G 4 (ad 0)) fun _ => sd_bnd fm fun r35 => if (Op.cmpValue (FP.dcmp r34 r35) .l) = 0 then N else (if (Op.cmpValue (FP.dcmp r34 r34) .l) = 0 then sd_ret 0 else (if (Op.cmpValue (FP.dcmp r35 r35) .l) = 0 then sd_ret 0 else N))) h b Q := by
  have L0 := L
  obtain ⟨C, M, n1, n2, n3, n4, n5, ⟨g, ho⟩, -, -⟩ := L
  rw [wp_bnd, (c_rd C).1, wp_bnd]
  refine Hc b _ (by omega) (by omega) (fun h' b' C' f' y1 y2 => ?_)
  have M' := MI_frO M (f'.O (o := o)) n1 n2 n3
  rw [wp_bnd, m_isC M', wp_bnd]
  refine Hm h' M' b' _ (by omega) (by omega) (fun h'' b'' M'' f'' y3 y4 => ?_)
  obtain ⟨L'', -⟩ := LI_mo L0 C' f'.O M'' f'' ⟨g, f'.2 o _ ho rfl n4 n5⟩
  have k9 := kk h'' b'' L'' (by omega) (by omega)
  rw [wp_ite]
  by_cases c : Op.cmpValue (FP.dcmp r r) .l = 0
  · rw [if_pos c]
    exact k9
  · rw [if_neg c, wp_ite, if_neg c, wp_ite, if_neg c]
    exact k9
end LAW
