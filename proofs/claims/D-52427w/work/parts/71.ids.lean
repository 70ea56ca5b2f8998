/-! class ids and slots at the start -/
set_option maxRecDepth 100000
theorem q676 : (Jvm.Cond.instantiable "java/lang/IllegalArgumentException" (6 : Nat)) ∈ lw_all := lw_g (lw_at lw_m3 81 rfl) rfl
theorem q1650 : (Jvm.Cond.instantiable "java/lang/Integer" (1 : Nat)) ∈ lw_all := lw_g (lw_at lw_m7 95 rfl) rfl
theorem q2324 : (Jvm.Cond.instantiable "java/lang/IllegalStateException" (6 : Nat)) ∈ lw_all := lw_g (lw_at lw_m10 49 rfl) rfl
theorem q2398 : (Jvm.Cond.instantiable "java/lang/IndexOutOfBoundsException" (6 : Nat)) ∈ lw_all := lw_g (lw_at lw_m10 123 rfl) rfl
theorem q3461 : (Jvm.Cond.castable "SofaDig$Sort" "java/lang/Object") ∈ lw_tbl := lw_at lw_m14 226 rfl
theorem q3471 : (Jvm.Cond.castable "SofaDig$Craft$1" "java/lang/Object") ∈ lw_tbl := lw_at lw_m14 236 rfl
theorem q3472 : (Jvm.Cond.castable "SofaDig$Craft$2" "java/lang/Object") ∈ lw_tbl := lw_at lw_m14 237 rfl
theorem q3473 : (Jvm.Cond.castable "SofaDig$Craft$3" "java/lang/Object") ∈ lw_tbl := lw_at lw_m14 238 rfl
theorem q3475 : (Jvm.Cond.castable "SofaDig$What$1" "java/lang/Object") ∈ lw_tbl := lw_at lw_m15 0 rfl
theorem q3476 : (Jvm.Cond.castable "SofaDig$What$2" "java/lang/Object") ∈ lw_tbl := lw_at lw_m15 1 rfl
theorem q3477 : (Jvm.Cond.castable "SofaDig$What$3" "java/lang/Object") ∈ lw_tbl := lw_at lw_m15 2 rfl
theorem q3478 : (Jvm.Cond.castable "SofaDig$What$4" "java/lang/Object") ∈ lw_tbl := lw_at lw_m15 3 rfl
theorem q3479 : (Jvm.Cond.castable "SofaDig$What$5" "java/lang/Object") ∈ lw_tbl := lw_at lw_m15 4 rfl
theorem q3480 : (Jvm.Cond.castable "SofaDig$What$6" "java/lang/Object") ∈ lw_tbl := lw_at lw_m15 5 rfl
theorem q3482 : (Jvm.Cond.castable "SofaDig$Kind" "java/lang/Object") ∈ lw_tbl := lw_at lw_m15 7 rfl
theorem q3485 : (Jvm.Cond.castable "SofaDig$Sign$5" "java/lang/Object") ∈ lw_tbl := lw_at lw_m15 10 rfl
theorem q3486 : (Jvm.Cond.castable "SofaDig$Sign$6" "java/lang/Object") ∈ lw_tbl := lw_at lw_m15 11 rfl
theorem q3488 : (Jvm.Cond.castable "SofaDig$Sign$3" "java/lang/Object") ∈ lw_tbl := lw_at lw_m15 13 rfl
theorem q3489 : (Jvm.Cond.castable "SofaDig$Sign$4" "java/lang/Object") ∈ lw_tbl := lw_at lw_m15 14 rfl
theorem q3490 : (Jvm.Cond.castable "SofaDig$Sign$1" "java/lang/Object") ∈ lw_tbl := lw_at lw_m15 15 rfl
theorem q3491 : (Jvm.Cond.castable "SofaDig$Sign$2" "java/lang/Object") ∈ lw_tbl := lw_at lw_m15 16 rfl
def kd_P (s : State) (c : Nat) (q : vw_C) (x : ClassId × (Nat → Nat)) : Prop := s.vm.findClass q.1 = some x.1 ∧ (sd_mk c = true → u_Kn s q.1 q.2.1 q.2.2 x.1 x.2)
theorem kd_mk {s : State} {args : Array Value} {c : Nat} {C : String} {T : u_T} {N n : Nat} (hts : ∀ w ∈ lw_all, w.before args s = true) (hin : ∀ w ∈ u_ws C T N, w ∈ lw_all) (hi : (Cond.instantiable C n).before args s = true) : ∃ x, kd_P s c (C, T, N) x := by
  obtain ⟨cC, iS, h⟩ := u_known hts hin hi
  exact ⟨(cC, iS), h.2.1, fun _ => h⟩
theorem kd_no {s : State} {c : Nat} {C : String} (h : va_Nw (.castable C "java/lang/Object") s) (hc : sd_mk c = false := by rfl) : ∃ x, kd_P s c (C, TZ0, 0) x := by
  obtain ⟨c0, t0, h1, -, -⟩ := Cond.castable_spec h
  exact ⟨(c0, fun _ => 0), h1, fun z => by rw [hc] at z; cases z⟩
theorem kd_all {s : State} {args : Array Value} (hts : ∀ w ∈ lw_all, w.before args s = true) (hw : ∀ w ∈ lw_tbl, sd_kw w = true → va_Nw w s) : ∀ (c : Nat) (q : vw_C), sd_cl[c]? = some q → ∃ x, kd_P s c q x := by
  intro c q hq
  have hc : c < 52 := (List.getElem?_eq_some_iff.mp hq).1
  rcases (show c = 0 ∨ c = 1 ∨ c = 2 ∨ c = 3 ∨ c = 4 ∨ c = 5 ∨ c = 6 ∨ c = 7 ∨ c = 8 ∨ c = 9 ∨ c = 10 ∨ c = 11 ∨ c = 12 ∨ c = 13 ∨ c = 14 ∨ c = 15 ∨ c = 16 ∨ c = 17 ∨ c = 18 ∨ c = 19 ∨ c = 20 ∨ c = 21 ∨ c = 22 ∨ c = 23 ∨ c = 24 ∨ c = 25 ∨ c = 26 ∨ c = 27 ∨ c = 28 ∨ c = 29 ∨ c = 30 ∨ c = 31 ∨ c = 32 ∨ c = 33 ∨ c = 34 ∨ c = 35 ∨ c = 36 ∨ c = 37 ∨ c = 38 ∨ c = 39 ∨ c = 40 ∨ c = 41 ∨ c = 42 ∨ c = 43 ∨ c = 44 ∨ c = 45 ∨ c = 46 ∨ c = 47 ∨ c = 48 ∨ c = 49 ∨ c = 50 ∨ c = 51 by omega) with rfl | rfl | rfl | rfl | rfl | rfl | rfl | rfl | rfl | rfl | rfl | rfl | rfl | rfl | rfl | rfl | rfl | rfl | rfl | rfl | rfl | rfl | rfl | rfl | rfl | rfl | rfl | rfl | rfl | rfl | rfl | rfl | rfl | rfl | rfl | rfl | rfl | rfl | rfl | rfl | rfl | rfl | rfl | rfl | rfl | rfl | rfl | rfl | rfl | rfl | rfl | rfl
  · cases hq; exact kd_mk hts in_X1 (hts _ q183)
  · cases hq; exact kd_mk hts in_X2 (hts _ q191)
  · cases hq; exact kd_mk hts in_X3 (hts _ q207)
  · cases hq; exact kd_mk hts in_X4 (hts _ q310)
  · cases hq; exact kd_mk hts in_X5 (hts _ q2760)
  · cases hq; exact kd_mk hts in_X6 (hts _ q2766)
  · cases hq; exact kd_mk hts in_X7 (hts _ q458)
  · cases hq; exact kd_mk hts in_X8 (hts _ q460)
  · cases hq; exact kd_mk hts in_X9 (hts _ q494)
  · cases hq; exact kd_mk hts in_Z1 (hts _ q1035)
  · cases hq; exact kd_mk hts in_X11 (hts _ q1621)
  · cases hq; exact kd_mk hts in_X12 (hts _ q1831)
  · cases hq; exact kd_mk hts in_X14 (hts _ q1877)
  · cases hq; exact kd_mk hts in_X15 (hts _ q1892)
  · cases hq; exact kd_mk hts in_X16 (hts _ q1922)
  · cases hq; exact kd_mk hts in_X17 (hts _ q1933)
  · cases hq; exact kd_mk hts in_X18 (hts _ q1947)
  · cases hq; exact kd_mk hts in_X19 (hts _ q1974)
  · cases hq; exact kd_mk hts in_X20 (hts _ q1981)
  · cases hq; exact kd_mk hts in_X21 (hts _ q2006)
  · cases hq; exact kd_mk hts in_X22 (hts _ q2019)
  · cases hq; exact kd_mk hts in_X23 (hts _ q2030)
  · cases hq; exact kd_mk hts in_X24 (hts _ q2044)
  · cases hq; exact kd_mk hts (fun _ h => nomatch h) (hts _ q2065)
  · cases hq; exact kd_no (hw _ q3475 rfl)
  · cases hq; exact kd_no (hw _ q3476 rfl)
  · cases hq; exact kd_no (hw _ q3477 rfl)
  · cases hq; exact kd_no (hw _ q3478 rfl)
  · cases hq; exact kd_no (hw _ q3479 rfl)
  · cases hq; exact kd_no (hw _ q3480 rfl)
  · cases hq; exact kd_no (hw _ q3471 rfl)
  · cases hq; exact kd_no (hw _ q3472 rfl)
  · cases hq; exact kd_no (hw _ q3473 rfl)
  · cases hq; exact kd_no (hw _ q3490 rfl)
  · cases hq; exact kd_no (hw _ q3491 rfl)
  · cases hq; exact kd_no (hw _ q3488 rfl)
  · cases hq; exact kd_no (hw _ q3489 rfl)
  · cases hq; exact kd_no (hw _ q3485 rfl)
  · cases hq; exact kd_no (hw _ q3486 rfl)
  · cases hq; exact kd_no (hw _ q3461 rfl)
  · cases hq; exact kd_no (hw _ q3482 rfl)
  · cases hq; exact kd_mk hts in_J2 (hts _ q213)
  · cases hq; exact kd_mk hts in_J31 (hts _ q2172)
  · cases hq; exact kd_mk hts in_J22 (hts _ q928)
  · cases hq; exact kd_mk hts in_J26 (hts _ q1692)
  · cases hq; exact kd_mk hts in_J14 (hts _ q644)
  · cases hq; exact kd_mk hts in_J13 (hts _ q528)
  · cases hq; exact kd_mk hts in_J19 (hts _ q1650)
  · cases hq; exact kd_mk hts (fun _ h => nomatch h) (hts _ q2324)
  · cases hq; exact kd_mk hts (fun _ h => nomatch h) (hts _ q676)
  · cases hq; exact kd_mk hts (fun _ h => nomatch h) (hts _ q2398)
  · cases hq; exact kd_mk hts in_Z2 (hts _ q1035)
theorem kd_D {s : State} {args : Array Value} (hts : ∀ w ∈ lw_all, w.before args s = true) (hw : ∀ w ∈ lw_tbl, sd_kw w = true → va_Nw w s) : ∃ D : va_G, ∀ (c : Nat) (q : vw_C), sd_cl[c]? = some q → s.vm.findClass q.1 = some (D.1 c) ∧ (sd_mk c = true → u_Kn s q.1 q.2.1 q.2.2 (D.1 c) (D.2 c)) := by
  have h : ∀ c : Nat, ∃ x : ClassId × (Nat → Nat), ∀ q, sd_cl[c]? = some q → kd_P s c q x := by
    intro c
    cases hc : sd_cl[c]? with
    | none => exact ⟨(0, fun _ => 0), fun q z => by cases z⟩
    | some q =>
      obtain ⟨x, hx⟩ := kd_all hts hw c q hc
      exact ⟨x, fun q' z => by cases z; exact hx⟩
  obtain ⟨f, hf⟩ := Classical.axiomOfChoice h
  exact ⟨(fun c => (f c).1, fun c => (f c).2), fun c q hq => hf c q hq⟩
