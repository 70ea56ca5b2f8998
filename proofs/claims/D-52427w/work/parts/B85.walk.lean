/-! THE PLAIN LAW: the walk over sums and tests: what is known, what stays -/
/-- words of the reader, by their kinds -/
def wdK : List (Nat × Nat) := [(103, 0), (104, 1), (105, 59), (106, 2), (108, 3), (109, 4), (110, 5), (111, 8), (112, 44), (113, 9), (114, 10), (115, 6), (116, 7), (117, 21), (118, 40), (119, 41), (120, 45), (121, 42), (122, 47), (123, 43), (124, 14), (125, 24), (126, 91), (127, 93), (128, 22), (129, 23), (131, 25), (132, 26)]
def wdL (c : Nat) : List Nat := if c < 29 then kws.getD c [] else [c]
/-- the reader's words -/
def wdsC (G : sd_G) : Prop := (∀ n c, (n, c) ∈ wdK → strC G (sd_ad G n) (wdL c)) ∧ strC G (sd_ad G 130) [60, 62, 61]
theorem wdL_ok : ∀ n c, (n, c) ∈ wdK → wcd (wdL c) c := by
  have key : ∀ p, p ∈ wdK → (decide (p.2 < 29) && decide (kws[p.2]? = some (wdL p.2)) || sym p.2 && decide (wdL p.2 = [p.2])) = true := by decide
  intro n c h
  have := key (n, c) h
  simp only [Bool.or_eq_true, Bool.and_eq_true, decide_eq_true_eq] at this
  exact this
/-- cells stay but for the reader's and hashes of names -/
def xf (rd : Nat) (N : Nat → Prop) (h h' : sd_H) : Prop := h.1 ≤ h'.1 ∧ (∀ a e, h.2 a = some e → a ≠ rd → ¬ N a → h'.2 a = some e) ∧ ∀ a, a < h.1 → a ≠ rd → ¬ N a → h'.2 a = h.2 a
theorem xf.refl {rd : Nat} {N : Nat → Prop} {h : sd_H} : xf rd N h h := ⟨Nat.le_refl _, fun _ _ h _ _ => h, fun _ _ _ _ => rfl⟩
theorem xf.trans {rd : Nat} {N : Nat → Prop} {h1 h2 h3 : sd_H} (p : xf rd N h1 h2) (q : xf rd N h2 h3) : xf rd N h1 h3 := ⟨Nat.le_trans p.1 q.1, fun a e ha h1 h2 => q.2.1 a e (p.2.1 a e ha h1 h2) h1 h2, fun a ha h1 h2 => (q.2.2 a (Nat.lt_of_lt_of_le ha p.1) h1 h2).trans (p.2.2 a ha h1 h2)⟩
theorem xf_up {rd : Nat} {N : Nat → Prop} {h : sd_H} {e : sd_E} : xf rd N h (sd_up h rd e) := ⟨Nat.le_refl _, fun a e' ha h1 _ => (up_ne h1).trans ha, fun a _ h1 _ => up_ne h1⟩
theorem xf_pu {G : sd_G} {rd : Nat} {N : Nat → Prop} {h : sd_H} {e : sd_E} (w : wfH G h) : xf rd N h (sd_pu h e) := ⟨Nat.le_succ _, fun a e' ha _ _ => (pu_ne (by have := (w.1 _ _ ha).2; omega)).trans ha, fun a ha _ _ => pu_ne (by omega)⟩
theorem xf_sfr {G : sd_G} {rd : Nat} {N : Nat → Prop} {h h' : sd_H} (s : sfr G N h h') : xf rd N h h' := ⟨Nat.le_of_eq s.1.symm, fun a e ha _ h2 => (s.2.1 a h2).trans ha, fun a _ _ h2 => s.2.1 a h2⟩
/-- the first name that is not known -/
def fstU (wk : Nat → Option Nat) (ks : List Nat) : Option Nat := ks.find? (fun j => (wk j).isNone)
def resR (wk : Nat → Option Nat) (z : Int32 × Int32) : Int32 × Int32 := if z.1 = 19 ∨ z.1 = 20 ∨ z.1 = 22 then (z.1, n3 ((wk z.2.toNatClampNeg).getD 0)) else z
def res (wk : Nat → Option Nat) (ws : List (Int32 × Int32)) : List (Int32 × Int32) := ws.map (resR wk)
theorem fstU_app {wk : Nat → Option Nat} {k1 k2 : List Nat} : fstU wk (k1 ++ k2) = (fstU wk k1).or (fstU wk k2) := List.find?_append
theorem res_app {wk : Nat → Option Nat} {w1 w2 : List (Int32 × Int32)} : res wk (w1 ++ w2) = res wk w1 ++ res wk w2 := List.map_append
