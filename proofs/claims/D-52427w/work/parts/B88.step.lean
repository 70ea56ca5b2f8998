/-! THE PLAIN LAW: steps of the walk -/
theorem wdL_kw : ∀ c, c < 29 → wcd (wdL c) c := by
  have key : ∀ c : Fin 29, kws[c.val]? = some (wdL c.val) := by decide
  exact fun c hc => Or.inl ⟨hc, key ⟨c, hc⟩⟩
theorem bud_le {β b : Nat × Nat} {v v' : Nat} (hb : bud β b v) (hv : v' ≤ v) : bud β b v' := ⟨by have := hb.1; omega, by have := hb.2; omega⟩
theorem bud_new {β b : Nat × Nat} {v v' c n : Nat} (hb : bud β b v) (hv : v' + c ≤ v) (hn : n ≤ 20 * c) : bud β (b.1 - c, b.2 - n) v' := ⟨by have := hb.1; simp only; omega, by have := hb.2; simp only; omega⟩
section WST
variable {G : sd_G} {u : Nat → Nat} {sz n0 n1 tl so m rd k : Nat} {ta tx : Nat → Nat} {w : Int32} {ky nd iv : Nat → Nat} {kt : Nat → List Nat} {β b : Nat × Nat} {h h' : sd_H} {i d v : Nat}
theorem w_isC {Q : Unit → sd_H → Nat × Nat → Prop} (R : RW G u sz n0 tl ta tx rd w so m k ky nd iv kt n1 i d h) : wp (sd_isC G 6 rd) h b Q = Q () h b := (rd_rd (RW_in R).2.1).2.2.2.2.2.2 b Q
theorem w_tifL {a c : Nat} {l : List Nat} {Q : Int32 → sd_H → Nat × Nat → Prop} (C : wlC G) (R : RW G u sz n0 tl ta tx rd w so m k ky nd iv kt n1 i d h) (hi : i ≤ nT u sz) (hw : wcd l c) (hc : strC G a l) (k1 : ∀ h', kdT u sz i = c → RW G u sz n0 tl ta tx rd w so m k ky nd iv kt n1 (i + 1) d h' → xf rd (nmA u sz tx) h h' → h'.1 = h.1 → Q 1 h' b) (k0 : kdT u sz i ≠ c → Q 0 h b) : wp (fX7_takeIf G rd a) h b Q := by
  rw [c_takeIf C.1 R.1 (RW_in R).1 (RW_in R).2.1 hi hw hc]
  by_cases e : kdT u sz i = c
  · rw [if_pos e]
    exact k1 _ e (RW_rd R) xf_up rfl
  · rw [if_neg e]
    exact k0 e
theorem w_tif {n c : Nat} {Q : Int32 → sd_H → Nat × Nat → Prop} (C : wlC G) (R : RW G u sz n0 tl ta tx rd w so m k ky nd iv kt n1 i d h) (hi : i ≤ nT u sz) (hn : (n, c) ∈ wdK) (k1 : ∀ h', kdT u sz i = c → RW G u sz n0 tl ta tx rd w so m k ky nd iv kt n1 (i + 1) d h' → xf rd (nmA u sz tx) h h' → h'.1 = h.1 → Q 1 h' b) (k0 : kdT u sz i ≠ c → Q 0 h b) : wp (fX7_takeIf G rd (sd_ad G n)) h b Q := w_tifL C R hi (wdL_ok n c hn) (C.2.1.1 n c hn) k1 k0
theorem w_nis {n c : Nat} {α : Type} {K : Int32 → sd_M α} {Q : α → sd_H → Nat × Nat → Prop} (C : wlC G) (R : RW G u sz n0 tl ta tx rd w so m k ky nd iv kt n1 i d h) (hi : i ≤ nT u sz) (hn : (n, c) ∈ wdK) : wp (sd_bnd (sd_isC G 6 rd) fun _ => sd_bnd (fX7_now G rd) fun r2 => sd_bnd (sd_isC G 8 r2) fun _ => sd_bnd (fX9_is G r2 (sd_ad G n)) K) h b Q = wp (K (if kdT u sz i = c then 1 else 0)) h b Q := by
  rw [wp_bnd, w_isC R, wp_bnd, c_now (RW_in R).1 (RW_in R).2.1 hi, wp_bnd, (tk_rd (RW_in R).1 hi).2.2.2.1, wp_bnd, c_is C.1 R.1 (RW_in R).1 hi (wdL_ok n c hn) (C.2.1.1 n c hn)]
/-- a fault made here -/
theorem w_flt {α : Type} {er : Int32} {t : Nat} {r : PR} {Q : α ⊕ Nat → sd_H → Nat × Nat → Prop} (wf : wfH G h) (hb : bud β b v) (hv : 1 ≤ v) (kf : FK G u sz tx rd (wkF w k kt u sz) r h β Q) (hr : fo (wkF w k kt u sz) r = some (er, t)) : Q (.inr h.1) (sd_pu h (aFt er (plT u sz t))) (b.1 - 1, b.2 - 8) := kf er t _ _ _ hr (pu_at _ _) (wfH_pu wf) (xf_pu wf) (bud_new hb (by omega) (by omega))
theorem bud_1 {v : Nat} (hb : bud β b v) (hv : 1 ≤ v) : 1 ≤ b.1 ∧ 8 ≤ b.2 := ⟨by have := hb.1; omega, by have := hb.2; omega⟩
theorem w_wrong {α : Type} {Q : α ⊕ Nat → sd_H → Nat × Nat → Prop} (R : RW G u sz n0 tl ta tx rd w so m k ky nd iv kt n1 i d h) (hi : i ≤ nT u sz) (hb : bud β b v) (hv : 1 ≤ v) (kf : FK G u sz tx rd (wkF w k kt u sz) (.inr i) h β Q) : wp (sd_bnd (sd_isC G 6 rd) fun _ => sd_bnd (fX7_wrong G rd) fun r4 => sd_bnd (sd_own r4) fun k17 => if k17 = 9 then sd_ret (.inr r4) else sd_fail) h b Q := by
  rw [wp_bnd, w_isC R]
  exact c_wrong R.1 (RW_in R).1 (RW_in R).2.1 hi (bud_1 hb hv).1 (bud_1 hb hv).2 (w_flt R.1 hb hv kf rfl)
theorem w_takeX {n c : Nat} {α : Type} {K : Unit → sd_M (α ⊕ Nat)} {Q : α ⊕ Nat → sd_H → Nat × Nat → Prop} (C : wlC G) (R : RW G u sz n0 tl ta tx rd w so m k ky nd iv kt n1 i d h) (hi : i ≤ nT u sz) (hn : (n, c) ∈ wdK) (hb : bud β b v) (hv : 1 ≤ v) (k1 : ∀ h', kdT u sz i = c → RW G u sz n0 tl ta tx rd w so m k ky nd iv kt n1 (i + 1) d h' → xf rd (nmA u sz tx) h h' → h'.1 = h.1 → wp (K ()) h' b Q) (kf : kdT u sz i ≠ c → FK G u sz tx rd (wkF w k kt u sz) (.inr i) h β Q) : wp (sd_bx (fX7_take_2 G rd (sd_ad G n)) (fun e => sd_ret (.inr e)) K) h b Q := by
  rw [wp_bx]
  refine c_take2 C.1 R.1 (RW_in R).1 (RW_in R).2.1 hi (wdL_ok n c hn) (C.2.1.1 n c hn) (bud_1 hb hv).1 (bud_1 hb hv).2 (fun e => ?_) (fun e => ?_)
  · exact k1 _ e (RW_rd R) xf_up rfl
  · show wp (sd_ret (.inr h.1)) _ _ Q
    rw [wp_ret]
    exact w_flt R.1 hb hv (kf e) rfl
theorem w_take {n c : Nat} {α : Type} {K : Unit → sd_M (α ⊕ Nat)} {Q : α ⊕ Nat → sd_H → Nat × Nat → Prop} (C : wlC G) (R : RW G u sz n0 tl ta tx rd w so m k ky nd iv kt n1 i d h) (hi : i ≤ nT u sz) (hn : (n, c) ∈ wdK) (hb : bud β b v) (hv : 1 ≤ v) (k1 : ∀ h', kdT u sz i = c → RW G u sz n0 tl ta tx rd w so m k ky nd iv kt n1 (i + 1) d h' → xf rd (nmA u sz tx) h h' → h'.1 = h.1 → wp (K ()) h' b Q) (kf : kdT u sz i ≠ c → FK G u sz tx rd (wkF w k kt u sz) (.inr i) h β Q) : wp (sd_bnd (sd_isC G 6 rd) fun _ => sd_bx (fX7_take_2 G rd (sd_ad G n)) (fun e => sd_ret (.inr e)) K) h b Q := by
  rw [wp_bnd, w_isC R]
  exact w_takeX C R hi hn hb hv k1 kf
theorem w_deep {n c : Nat} {α : Type} {K : Unit → sd_M (α ⊕ Nat)} {Q : α ⊕ Nat → sd_H → Nat × Nat → Prop} (C : wlC G) (R : RW G u sz n0 tl ta tx rd w so m k ky nd iv kt n1 i d h) (hi : i ≤ nT u sz) (hd : d ≤ 8) (hn : (n, c) ∈ wdK) (hb : bud β b v) (hv : 1 ≤ v) (k1 : ∀ h', kdT u sz i = c → d ≠ 8 → RW G u sz n0 tl ta tx rd w so m k ky nd iv kt n1 (i + 1) (d + 1) h' → xf rd (nmA u sz tx) h h' → h'.1 = h.1 → wp (K ()) h' b Q) (kf : kdT u sz i ≠ c ∨ d = 8 → FK G u sz tx rd (wkF w k kt u sz) (.inr i) h β Q) : wp (sd_bnd (sd_isC G 6 rd) fun _ => sd_bx (fX7_deeper G rd (sd_ad G n)) (fun e => sd_ret (.inr e)) K) h b Q := by
  rw [wp_bnd, w_isC R, wp_bx]
  refine c_deeper C.1 R.1 (RW_in R).1 (RW_in R).2.1 hi hd (wdL_ok n c hn) (C.2.1.1 n c hn) (bud_1 hb hv).1 (bud_1 hb hv).2 (fun e e2 => ?_) (fun e => ?_)
  · exact k1 _ e e2 (RW_rd R) xf_up rfl
  · show wp (sd_ret (.inr h.1)) _ _ Q
    rw [wp_ret]
    exact w_flt R.1 hb hv (kf e) rfl
theorem w_close {n c : Nat} {α : Type} {K : Unit → sd_M (α ⊕ Nat)} {Q : α ⊕ Nat → sd_H → Nat × Nat → Prop} (C : wlC G) (R : RW G u sz n0 tl ta tx rd w so m k ky nd iv kt n1 i (d + 1) h) (hi : i ≤ nT u sz) (hn : (n, c) ∈ wdK) (hb : bud β b v) (hv : 1 ≤ v) (k1 : ∀ h', kdT u sz i = c → RW G u sz n0 tl ta tx rd w so m k ky nd iv kt n1 (i + 1) d h' → xf rd (nmA u sz tx) h h' → h'.1 = h.1 → wp (K ()) h' b Q) (kf : kdT u sz i ≠ c → FK G u sz tx rd (wkF w k kt u sz) (.inr i) h β Q) : wp (sd_bnd (sd_isC G 6 rd) fun _ => sd_bx (fX7_close G rd (sd_ad G n)) (fun e => sd_ret (.inr e)) K) h b Q := by
  rw [wp_bnd, w_isC R, wp_bx]
  refine c_close C.1 R.1 (RW_in R).1 (RW_in R).2.1 hi (wdL_ok n c hn) (C.2.1.1 n c hn) (bud_1 hb hv).1 (bud_1 hb hv).2 (fun e => ?_) (fun e => ?_)
  · exact k1 _ e (RW_rd R) xf_up rfl
  · show wp (sd_ret (.inr h.1)) _ _ Q
    rw [wp_ret]
    exact w_flt R.1 hb hv (kf e) rfl
theorem w_knownX {α : Type} {K : Int32 → sd_M (α ⊕ Nat)} {Q : α ⊕ Nat → sd_H → Nat × Nat → Prop} (C : wlC G) (hiv : ∀ j, j < k → sd_c G (iv j) = some (.inr (47, [.int (n3 j)]))) (R : RW G u sz n0 tl ta tx rd w so m k ky nd iv kt n1 i d h) (hi : i ≤ nT u sz) (hb : bud β b v) (hv : 1 ≤ v) (k1 : ∀ e h', kdT u sz i = 30 → wkF w k kt u sz i = some e → RW G u sz n0 tl ta tx rd w so m k ky nd iv kt n1 (i + 1) d h' → xf rd (nmA u sz tx) h h' → h'.1 = h.1 → wp (K (n3 e)) h' b Q) (kf : kdT u sz i ≠ 30 → FK G u sz tx rd (wkF w k kt u sz) (.inr i) h β Q) (k3 : kdT u sz i = 30 → wkF w k kt u sz i = none → ∀ h' q b', h'.2 q = some (aFt 3 (plT u sz i)) → wfH G h' → xf rd (nmA u sz tx) h h' → bud β b' 0 → Q (.inr q) h' b') : wp (sd_bx (fX7_known G rd m) (fun e => sd_ret (.inr e)) K) h b Q := by
  have R1 : RW G u sz n0 tl ta tx rd w so m k ky nd iv kt n1 (i + 1) d (sd_up h rd (aRd tl (i + 1) d w so m)) := RW_rd R
  have wkn : w ≠ 0 → wkF w k kt u sz i = fdK kt (txT u sz i) (List.range k) := fun q => if_neg q
  rw [wp_bx]
  refine c_known C.1 R.1 (RW_in R).1 (RW_in R).2.1 (RW_in R).2.2 hiv hi (bud_1 hb hv).1 (bud_1 hb hv).2 (fun e => ?_) (fun h' e e2 s => ?_) (fun h' j e e2 e3 s => ?_) (fun h' e e2 e3 s => ?_)
  · show wp (sd_ret (.inr h.1)) _ _ Q
    rw [wp_ret]
    exact w_flt R.1 hb hv (kf e) rfl
  · exact k1 0 h' e (if_pos e2) (RW_sfr R1 s) (xf_up.trans (xf_sfr s)) s.1
  · exact k1 j h' e ((wkn e2).trans e3) (RW_sfr R1 s) (xf_up.trans (xf_sfr s)) s.1
  · show wp (sd_ret (.inr h'.1)) _ _ Q
    rw [wp_ret]
    have wf' := (RW_sfr R1 s).1
    exact k3 e ((wkn e2).trans e3) _ _ _ (pu_at _ _) (wfH_pu wf') ((xf_up.trans (xf_sfr s)).trans (xf_pu wf')) (bud_new hb (by omega) (by omega))
theorem w_known {α : Type} {K : Int32 → sd_M (α ⊕ Nat)} {Q : α ⊕ Nat → sd_H → Nat × Nat → Prop} (C : wlC G) (hiv : ∀ j, j < k → sd_c G (iv j) = some (.inr (47, [.int (n3 j)]))) (R : RW G u sz n0 tl ta tx rd w so m k ky nd iv kt n1 i d h) (hi : i ≤ nT u sz) (hb : bud β b v) (hv : 1 ≤ v) (k1 : ∀ e h', kdT u sz i = 30 → wkF w k kt u sz i = some e → RW G u sz n0 tl ta tx rd w so m k ky nd iv kt n1 (i + 1) d h' → xf rd (nmA u sz tx) h h' → h'.1 = h.1 → wp (K (n3 e)) h' b Q) (kf : kdT u sz i ≠ 30 → FK G u sz tx rd (wkF w k kt u sz) (.inr i) h β Q) (k3 : kdT u sz i = 30 → wkF w k kt u sz i = none → ∀ h' q b', h'.2 q = some (aFt 3 (plT u sz i)) → wfH G h' → xf rd (nmA u sz tx) h h' → bud β b' 0 → Q (.inr q) h' b') : wp (sd_bnd (sd_isC G 6 rd) fun _ => sd_bx (fX7_known G rd m) (fun e => sd_ret (.inr e)) K) h b Q := by
  rw [wp_bnd, w_isC R]
  exact w_knownX C hiv R hi hb hv k1 kf k3
theorem wp_bx_bnd {α γ δ : Type} {f : sd_M γ} {g : γ → sd_M (α ⊕ Nat)} {KX : Nat → sd_M δ} {K : α → sd_M δ} {Q : δ → sd_H → Nat × Nat → Prop} : wp (sd_bx (sd_bnd f g) KX K) h b Q = wp f h b (fun x h1 b1 => wp (sd_bx (g x) KX K) h1 b1 Q) := by
  rw [wp_bx, wp_bnd]
  congr 1
  funext x h1 b1
  rw [wp_bx]
theorem wp_bx_bx {α γ δ : Type} {f : sd_M (γ ⊕ Nat)} {g : γ → sd_M (α ⊕ Nat)} {K : α → sd_M (δ ⊕ Nat)} {Q : δ ⊕ Nat → sd_H → Nat × Nat → Prop} : wp (sd_bx (sd_bx f (fun e => sd_ret (.inr e)) g) (fun e => sd_ret (.inr e)) K) h b Q = wp (sd_bx f (fun e => sd_ret (.inr e)) (fun x => sd_bx (g x) (fun e => sd_ret (.inr e)) K)) h b Q := by
  rw [wp_bx, wp_bx, wp_bx]
  congr 1
  funext x h1 b1
  cases x with
  | inl a =>
    show wp (g a) h1 b1 _ = wp (sd_bx (g a) _ K) h1 b1 Q
    rw [wp_bx]
  | inr e =>
    show wp (sd_ret (Sum.inr e)) h1 b1 _ = wp (sd_ret (Sum.inr e)) h1 b1 Q
    rw [wp_ret]
theorem wp_bx_l {α δ : Type} {a : α} {KX : Nat → sd_M δ} {K : α → sd_M δ} {Q : δ → sd_H → Nat × Nat → Prop} : wp (sd_bx (sd_ret (.inl a)) KX K) h b Q = wp (K a) h b Q := by
  rw [wp_bx, wp_ret]
/-- an object made on the way is still there -/
theorem RW_mk {e : sd_E} (R : RW G u sz n0 tl ta tx rd w so m k ky nd iv kt n1 i d h) (f : xf rd (nmA u sz tx) (sd_pu h e) h') : h'.2 h.1 = some e := f.2.1 _ _ (pu_at h e) (RW_nw R R.2.1).1 (RW_nw R R.2.1).2
theorem c_join {o sg a a' : Nat} {x y z : Value} {Q : Unit → sd_H → Nat × Nat → Prop} (ho : h.2 o = some (.inr (16, [x, y, z]))) : wp (fX18_init G o sg a a') h b Q = Q () (sd_up h o (.inr (16, [.ref sg, .ref a, .ref a']))) b := by
  unfold fX18_init fX13_init
  rw [wp_bnd, wp_ret, wp_bnd, wp_put ho (Nat.le_of_ble_eq_true rfl) rfl rfl, wp_bnd, wp_put (up_at _ _ _) (Nat.le_of_ble_eq_true rfl) rfl rfl, wp_bnd, up_up, wp_put (up_at _ _ _) (Nat.le_of_ble_eq_true rfl) rfl rfl, wp_ret, up_up]
  rfl
theorem res_1 {wk : Nat → Option Nat} {z x : Int32} (h1 : z ≠ 19) (h2 : z ≠ 20) (h3 : z ≠ 22) : res wk [(z, x)] = [(z, x)] := by
  show [resR wk (z, x)] = _
  unfold resR
  rw [if_neg]
  rintro (h | h | h)
  · exact h1 h
  · exact h2 h
  · exact h3 h
end WST
