/-! the row of a Fault's super call -/
section SJG
variable {Y : sd_Y} {X : sd_X} {pc : Nat} {L : List (Nat × Value)} {st : List Value} {h : sd_H} {c : Nat × Nat} {β : Type} {h2 : sd_H}
def sd_exi (a : Nat) : sd_M Unit := fun h => match h.2 a with
  | some (.inr (ci, [_, _, _, v3, x, y])) => if ci = 51 ∧ v3 = .null then some ((), (0, 0), sd_up h a (.inr (9, [x, y]))) else none
  | _ => none
theorem sd_exi_some {a : Nat} {u : Unit} {c1 : Nat × Nat} {h1 : sd_H} (e : sd_exi a h = some (u, c1, h1)) : ∃ v0 v1 v2 x y, h.2 a = some (.inr (51, [v0, v1, v2, .null, x, y])) ∧ c1 = (0, 0) ∧ h1 = sd_up h a (.inr (9, [x, y])) := by
  unfold sd_exi at e
  split at e
  · next ci v0 v1 v2 v3 x y he =>
    split at e
    · next hc =>
      obtain ⟨rfl, rfl⟩ := hc
      cases e
      exact ⟨v0, v1, v2, x, y, he, rfl, rfl⟩
    · cases e
  · cases e
set_option maxHeartbeats 1000000 in
theorem sj_excInit {K : Unit → sd_M β} {ρ : β} {index a : Nat} (ps : List Nat) (hlt : X.1.1.stackTraces = false) (hp : (sd_atF Y.1.cls index RX10 8).filter vy_no = ps.filterMap (fun i => lw_tbl[i]?)) (hg : ((sd_atF Y.1.cls index RX10 8).filter vy_no).all sd_gk = true) (hfr : 3 < X.2.1.1) (hlo : (st.map fun v => v.category).sum + 54 ≤ X.2.1.2) (hf : sd_bnd (sd_exi a) K h = some (ρ, c, h2)) (d : decode Y.2.1 pc = .ok (.invokespecial index, 3)) (kk : ∀ h1, K () h1 = some (ρ, c, h2) → sd_J Y X (pc + 3) L st h1 c) : sd_J Y X pc L (.ref a :: st) h c := by
  obtain ⟨u, c1, c2, h1, e1, e2, rfl⟩ := sd_bnd_some hf
  obtain ⟨v0, v1, v2, x, y, he, rfl, rfl⟩ := sd_exi_some e1
  simp only [Nat.zero_add] at kk ⊢
  have kk := kk _ e2
  intro p e s m below meth cd ls H locs cells slots C hR hz hl b1 b2
  obtain ⟨hza, -, cell, q1, g1, g2, g3, g4, r, g5, g6, g7⟩ := hR.2.2.2.2.1 a _ he
  have g3 := g3 hza
  obtain ⟨gm1, gm2⟩ := g7 rfl
  cases g5
  intro T hT S
  have htr : e.platform.stackTraces = false := (show e.platform.stackTraces = X.1.1.stackTraces by rw [S.admits.platform]).trans hlt
  have S1 := vy_rebase S (R' := { frames := X.2.1.1, locals := X.2.1.2, cells := 0, slots := 0 }) (Nat.le_refl _) (Nat.le_refl _) (by show cells + 0 ≤ X.2.2.2.2.1; omega) (by show slots + 0 ≤ X.2.2.2.2.2; omega)
  obtain ⟨s', hA⟩ : ∃ z, z = (T.setVm s.vm).setFrames (.invoking m X.2.2.1.toArray :: below) := ⟨_, rfl⟩
  rw [← hA] at S1
  have hvm : s'.vm = s.vm := by rw [hA]; rfl
  have hhp : s'.heap = H := by rw [hA]; exact hT
  have hW0 : s.WarmedH s'.vm := by rw [hvm]; exact State.WarmedH.refl s
  have hK' : sd_K X.1.2 s' := sd_K.warm hW0 C.K
  have ok' : ∀ w ∈ lw_all, w.before X.2.2.1.toArray s' = true := fun w hw => vy_ot_at hW0 hvm.symm (sd_all_ot hw) (C.2.2.2.2.2.1 w hw)
  have hU' : vy_Zq Bundle.tN "UNASSIGNED_STACK" Bundle.steD (fun a => sd_z X.1.2 ≤ a) s' s'.heap := by rw [hhp]; exact vy_Zq.kept hK'.2.2.2.2.2.2.2.2.2.2.1 (hR.S hz).2.1
  have hN' : vy_Zq Bundle.tN "SUPPRESSED_SENTINEL" Bundle.listD (fun a => sd_z X.1.2 ≤ a) s' s'.heap := by rw [hhp]; exact vy_Zq.kept hK'.2.2.2.2.2.2.2.2.2.2.2 (hR.S hz).2.1
  have hw : ∀ w ∈ sd_atF Y.1.cls index RX10 8, w.before X.2.2.1.toArray s' = true := vy_own (fun w hw => sd_gk_at ok' hK' (sd_inT ps hp w hw) (List.all_eq_true.mp hg w hw)) (vy_isRefq hU'.1) (vy_isRefq hN'.1) hU'.2.word hN'.2.word
  have hf51 : s'.vm.findClass RX10 = some ((sd_D X.1.2).1 51) := (hK'.1 51 (RX10, TZ2, 6) rfl).1
  have hf9 : s'.vm.findClass RX10 = some ((sd_D X.1.2).1 9) := (hK'.1 9 (RX10, TZ1, 2) rfl).1
  have k51 := ((hK'.1 51 (RX10, TZ2, 6) rfl).2 rfl).1
  have k9 := ((hK'.1 9 (RX10, TZ1, 2) rfl).2 rfl).1
  have slot : ∀ k, k < 6 → ∀ (cB : ClassId) (kB : Class) (iB : Nat) (f : Field), s'.fieldFound? (TZ2 k).1 (TZ2 k).2.1 (TZ2 k).2.2.1 = some (cB, kB, iB, f) → cell.slots[f.slot]? = some (vp_V [v0, v1, v2, .null, x, y] k) := by
    intro k hk cB kB iB f hff
    obtain ⟨cf, kf, fi, f', hi, hsl⟩ := k51 k hk
    cases hff.symm.trans hi
    rw [hsl]
    exact g6 k hk
  have hcd : cd.code = Y.2.1 := C.2.1
  obtain ⟨V, ce, L2, S2, hL2, hlt2, hVh, hcc, hcv, hsame, stp⟩ := sd_ctorF S1 C.1 htr (own := Y.1.cls) (F := RX10) (ic := index) (nF := 8) (by rw [hvm]; exact C.2.2.2.2.1) hw (a := a) (cell := cell) hf51 (by rw [hT]; exact q1) g4 g3 gm1 gm2
    (fun cB kB iB fB hff => slot 3 (by decide) cB kB iB fB hff)
    (fun cB kB iB fB hff => k2_hasslot (slot 0 (by decide) cB kB iB fB hff)) (fun cB kB iB fB hff => k2_hasslot (slot 1 (by decide) cB kB iB fB hff)) (fun cB kB iB fB hff => k2_hasslot (slot 2 (by decide) cB kB iB fB hff))
    (g := F0 m pc ls (.ref a :: st)) rfl (hl.1.trans C.2.2.2.1.symm) (rest := st) rfl (by rw [hcd]; exact d) hfr (by show 2 * 0 + _ + 54 ≤ _; simp only; omega)
  have hat : sd_at X.1.2 a (.inr (9, [x, y])) ce := by
    refine ⟨(by rw [hcv]; exact fun z => by cases z), (by rw [hcv]; rfl), fun _ => hcv, hcc.trans (Option.some.inj (hf51.symm.trans hf9)), (RX10, TZ1, 2), rfl, fun k hk => ?_, fun z => absurd z (show ¬ (9 = 51) by decide)⟩
    obtain ⟨cf, kf, fi, f, hi, hsl⟩ := k9 k hk
    rw [← hsl]
    have hlay := u_lays ok' in_Z1 hk
    have hty := State.fieldFound?_type hi (tyZ1_ok k hk)
    rcases (show k = 0 ∨ k = 1 by have := hk; change k < 2 at this; omega) with rfl | rfl
    · rw [hsame _ _ _ _ _ _ _ hlay hi (by rw [hty.1]; decide) (by rw [hty.1]; decide) (by rw [hty.1]; decide)]
      exact slot 4 (by decide) _ _ _ _ hi
    · rw [hsame _ _ _ _ _ _ _ hlay hi (by rw [hty.1]; decide) (by rw [hty.1]; decide) (by rw [hty.1]; decide)]
      exact slot 5 (by decide) _ _ _ _ hi
  subst hA
  have S3 := sd_unbase S S2
  have hla : a < H.size := (Array.getElem?_eq_some_iff.mp q1).1
  have hVH : V.heap = H := hVh.trans hT
  obtain ⟨t, a1, b3⟩ := kk p e s m below meth cd ls (V.setCell a ce).heap (locs ++ L2) (cells + 0) (slots + 0) C (hR.put he (cell := ce) (by show (V.heap.setIfInBounds a ce)[a]? = some ce; rw [hVH]; simp [Array.getElem?_setIfInBounds, hla]) (by show (V.heap.setIfInBounds a ce).size = H.size; rw [hVH]; simp) (fun q hq => by show (V.heap.setIfInBounds a ce)[q]? = H[q]?; rw [hVH]; simp [Array.getElem?_setIfInBounds, Ne.symm hq]) hat) (fun z hz' => by
    rcases List.mem_append.mp hz' with z1 | z1
    · exact hz z z1
    · rw [hL2 z z1]; exact hza) hl b1 b2 (V.setCell a ce) rfl S3
  exact ⟨t, stp t a1, b3⟩
end SJG
