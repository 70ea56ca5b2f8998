/-! THE START: constant cells as the layer sees them -/
def sd_absI (ce9 : Cell) (j : Nat) : Int32 := match ce9.slots[j]? with
  | some (.int v) => v
  | _ => 0
def sd_absQ (ce9 : Cell) (j : Nat) : Option Nat := match ce9.slots[j]? with
  | some (.ref v) => some v
  | _ => none
def sd_vI (v : Value) : Bool := match v with
  | .int _ => true
  | _ => false
def sd_vQ (v : Value) : Bool := match v with
  | .ref _ => true
  | .null => true
  | _ => false
def sd_pickA (A : Nat → ClassId) (ce9 : Cell) : List Nat → Option sd_E
  | [] => none
  | t :: r => if ce9.cls = A t ∨ (t = 0 ∧ ce9.cls = A 10) then (if ce9.slots.toList.all sd_vI = true then some (.inl (t, ce9.slots.size, .inl (sd_absI ce9))) else if ce9.slots.toList.all sd_vQ = true then some (.inl (t, ce9.slots.size, .inr (.inr (.inr (.inr (sd_absQ ce9)))))) else none) else sd_pickA A ce9 r
def sd_pickO (D : va_G) (ce9 : Cell) : List (Nat × Nat) → Option sd_E
  | [] => none
  | q :: r => if ce9.cls = D.1 q.1 ∧ (List.range q.2).all (fun k => (ce9.slots[D.2 q.1 k]?).isSome) = true then some (.inr (q.1, (List.range q.2).map (fun k => (ce9.slots[D.2 q.1 k]?).getD .null))) else sd_pickO D ce9 r
/-- the constants' kinds: array types; classes with their numbers of fields -/
def sd_kA : List Nat := [0, 2, 4, 6, 7, 8, 9]
def sd_kO : List (Nat × Nat) := [(24, 0), (25, 0), (26, 0), (27, 0), (28, 0), (29, 0), (30, 0), (31, 0), (32, 0), (33, 0), (34, 0), (35, 0), (36, 0), (37, 0), (38, 0), (39, 0), (40, 0), (45, 4), (47, 1)]
def sd_absC (D : va_G) (A : Nat → ClassId) (H : Heap) (a : Nat) : Option sd_E := match H[a]? with
  | none => none
  | some ce9 => if ce9.vm ≠ .unknown ∧ ce9.vm.isStatics = false then (match sd_pickA A ce9 sd_kA with
    | some e => some e
    | none => sd_pickO D ce9 sd_kO) else none
theorem sd_pickA_some {A : Nat → ClassId} {ce9 : Cell} {e : sd_E} : ∀ {l : List Nat}, sd_pickA A ce9 l = some e → ∃ t x, t ∈ l ∧ e = .inl (t, x) ∧ (ce9.cls = A t ∨ (t = 0 ∧ ce9.cls = A 10)) ∧ ce9.slots.size = x.1 ∧ ∀ j, j < x.1 → ce9.slots[j]? = some (sd_sv x j)
  | [], h => by cases h
  | t :: r, h => by
    unfold sd_pickA at h
    split at h
    · next hc =>
      split at h
      · next hI =>
        cases h
        refine ⟨t, _, List.mem_cons_self, rfl, hc, rfl, fun j hj => ?_⟩
        have hj' : j < ce9.slots.size := hj
        have hv := List.all_eq_true.mp hI ce9.slots[j] (Array.getElem_mem_toList hj')
        show _ = some (Value.int (sd_absI ce9 j))
        unfold sd_absI
        rw [Array.getElem?_eq_getElem hj']
        generalize ce9.slots[j] = v at hv
        cases v <;> first | rfl | cases hv
      · split at h
        · next hI =>
          cases h
          refine ⟨t, _, List.mem_cons_self, rfl, hc, rfl, fun j hj => ?_⟩
          have hj' : j < ce9.slots.size := hj
          have hv := List.all_eq_true.mp hI ce9.slots[j] (Array.getElem_mem_toList hj')
          show _ = some (va_rf (sd_absQ ce9 j))
          unfold sd_absQ
          rw [Array.getElem?_eq_getElem hj']
          generalize ce9.slots[j] = v at hv
          cases v <;> first | rfl | cases hv
        · cases h
    · obtain ⟨t', x, h1, h2⟩ := sd_pickA_some h
      exact ⟨t', x, List.mem_cons_of_mem _ h1, h2⟩
theorem sd_pickO_some {D : va_G} {ce9 : Cell} {e : sd_E} : ∀ {l : List (Nat × Nat)}, sd_pickO D ce9 l = some e → ∃ q fs, q ∈ l ∧ e = .inr (q.1, fs) ∧ ce9.cls = D.1 q.1 ∧ ∀ k, k < q.2 → ce9.slots[D.2 q.1 k]? = some (vp_V fs k)
  | [], h => by cases h
  | q :: r, h => by
    unfold sd_pickO at h
    split at h
    · next hc =>
      cases h
      refine ⟨q, _, List.mem_cons_self, rfl, hc.1, fun k hk => ?_⟩
      have hv := List.all_eq_true.mp hc.2 k (List.mem_range.mpr hk)
      obtain ⟨v, hv⟩ := Option.isSome_iff_exists.mp hv
      rw [hv]
      simp [vp_V, hk, hv]
    · obtain ⟨q', fs, h1, h2⟩ := sd_pickO_some h
      exact ⟨q', fs, List.mem_cons_of_mem _ h1, h2⟩
theorem sd_kA_ok : ∀ t ∈ sd_kA, t < sd_ty.length := by decide
theorem sd_kO_ok : ∀ q ∈ sd_kO, q.1 ≠ 51 ∧ ∃ r, sd_cl[q.1]? = some r ∧ r.2.2 = q.2 := by
  intro q hq
  simp only [sd_kO, List.mem_cons, List.not_mem_nil, or_false] at hq
  rcases hq with rfl | rfl | rfl | rfl | rfl | rfl | rfl | rfl | rfl | rfl | rfl | rfl | rfl | rfl | rfl | rfl | rfl | rfl | rfl <;> exact ⟨by decide, _, rfl, rfl⟩
/-- the layer's view of the start's heap -/
theorem sd_R_start {G : sd_G} {H : Heap} (hO : sd_O G = H) (hz : sd_z G = H.size) (hc : ∀ a, sd_c G a = sd_absC (sd_D G) (sd_A G) H a) : sd_R G (H.size, fun _ => none) H := by
  refine ⟨rfl, (by rw [hz]; exact Nat.le_refl _), (by rw [hO, hz]), fun a _ => (by rw [hO]), fun a e h => (by cases h), fun a e he => ?_⟩
  rw [hc] at he
  unfold sd_absC at he
  split at he
  · cases he
  · next ce9 hce =>
    have hlt : a < H.size := (Array.getElem?_eq_some_iff.mp hce).1
    refine ⟨by rw [hz]; exact hlt, ce9, by rw [hO]; exact hce, ?_⟩
    split at he
    · next hvm =>
      refine ⟨hvm.1, hvm.2, fun z => absurd hlt (Nat.not_lt_of_le (by rw [← hz]; exact z)), ?_⟩
      split at he
      · next e' hp =>
        cases he
        obtain ⟨t, x, h1, rfl, h3, h4, h5⟩ := sd_pickA_some hp
        exact ⟨h3, sd_kA_ok t h1, h4, h5⟩
      · obtain ⟨q, fs, h1, rfl, h3, h4⟩ := sd_pickO_some he
        obtain ⟨n51, r, hr, hn⟩ := sd_kO_ok q h1
        exact ⟨h3, r, hr, fun k hk => h4 k (by rw [← hn]; exact hk), fun z => absurd z n51⟩
    · cases he
