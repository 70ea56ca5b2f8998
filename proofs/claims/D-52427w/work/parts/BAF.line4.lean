/-! THE PLAIN LAW: a line of the second walk: empires, finds, orders -/
theorem strm_c {x : Nat → Nat → Int32} {f s k : Nat} (hs : s < 8) (hk : k < 10) (h : x 28 f = n3 (10 * s + k)) : strm x f = n3 k := by
  unfold strm
  rw [h, show (10 : Int32) = n3 10 from rfl, n3_div (by omega) (by omega), n3_mul, n3_sub (by omega)]
  congr 1
  omega
section LN4
variable {G : sd_G} {u : Nat → Nat} {sz n0 n2 n4 tl so m rd E0 i : Nat} {ta tx : Nat → Nat} {w : Int32} {ky nd iv : Nat → Nat} {kt : Nat → List Nat} {F ad : Nat → Nat} {mcs : Nat → Int32} {TZ : Nat → Prop} {S : SS} {os : List Ln} {h h' : sd_H} {β b : Nat × Nat} {v : Nat} {Q : Unit ⊕ Nat → sd_H → Nat × Nat → Prop}
theorem l2_empire (w1 : w ≠ 0) (C : wlC G) (I : icC G) (W : W2m G u sz n0 tl ta tx rd w so m n2 n4 E0 F ad mcs TZ S os ky nd iv kt (i + 1) h) (hi : i + 1 ≤ nT u sz) (hf : kdT u sz (i + 1) = 30 ∧ kdT u sz (i + 2) = 3 ∧ kdT u sz (i + 3) = 31 ∧ kdT u sz (i + 4) = 4 ∧ kdT u sz (i + 5) = 31) (hb : bud β b v) (hv : 100 ≤ v)
    (kf : ∀ e t h' q b', lEmp (nbT u sz) (nwT u sz) S i = .inr (e, t) → h'.2 q = some (aFt (n3 e) (plT u sz t)) → wfH G h' → fz n0 h h' → bud β b' 0 → Q (.inr q) h' b')
    (kk : ∀ S' h' b', lEmp (nbT u sz) (nwT u sz) S i = .inl S' → W2 G u sz n0 tl ta tx rd w so m n2 n4 E0 F ad mcs TZ S' os (i + 6) h' → fz n0 h h' → bud β b' (v - 60) → Q (.inl ()) h' b') : wp (fX7_empire G rd) h b Q := by
  obtain ⟨wf, n4l, rc, mo, hiv, nmr, ⟨rr, sz', A, s3, s4, s5, hrr⟩, T, hso, hE0, St, T4, X0, osl, osn, q20, q21, q22, q26, q32, hT⟩ := W
  obtain ⟨x1, x2, x3, x4, x5, x6, x7, x8, x9, x10⟩ := id X0
  obtain ⟨mc, cap, f, a1, a2, a3, a4⟩ := A.1 3 (by omega) (by omega)
  have R := RW_of wf rc
  have okn := nm_ok hi hf.1
  refine w_empire (F := F) C I hiv R x1 (by omega) x3 T hi hso a1 a2 a3 (by omega) (fun j hj => by obtain ⟨o, o1, o2⟩ := a4 j hj; rw [o1]; exact EL2_ok wf (by omega) (by omega) o2) mo (fun _ => hf) hb hv (fun er t h' q b' p1 p2 p3 p4 p5 => ?_) (fun h' mc' r' cap' f' o b' q => absurd q w1) (fun h' mc' r' cap' f' o b' ky' nd' iv' _ p1 p2 p3 p4 p5 p6 p7 p8 p9 p10 p11 p12 p13 p14 p15 p16 => ?_)
  · rcases p1 with ⟨p1, -⟩ | ⟨-, p1⟩
    · exact absurd p1 w1
    · obtain ⟨e, e1, rfl⟩ := emp_inr nmr q22 okn p1
      exact kf e t h' q b' e1 p2 p3 p4 p5
  · obtain ⟨e1, e2, e3⟩ := emp_inl nmr q22 okn p1
    have hM : okM F rr h (fun a => a = F 3 ∨ a = rr 3) := by
      rintro z (q | q)
      · exact Or.inl ⟨3, by omega, by omega, Or.inl q⟩
      · exact Or.inl ⟨3, by omega, by omega, Or.inr q⟩
    have hP := PZ_kp (TZ' := TZ) wf rc A X0 hT (fun k k1 k2 => (hrr k k1 k2).2) p14 hM (fun a q => q)
    have r24 : up2 (up2 S.2.2 24 (S.1 22) (n3 (nbT u sz (i + 3)))) 25 (S.1 22) (n3 (nbT u sz (i + 5))) 24 = upd (S.2.2 24) (S.1 22) (n3 (nbT u sz (i + 3))) := rfl
    have r25 : up2 (up2 S.2.2 24 (S.1 22) (n3 (nbT u sz (i + 3)))) 25 (S.1 22) (n3 (nbT u sz (i + 5))) 25 = upd (S.2.2 25) (S.1 22) (n3 (nbT u sz (i + 5))) := rfl
    have SK := STK_kp (x' := S.2.2) wf rc A X0 (fun k k1 k2 => (hrr k k1 k2).1) T4 St p14 hM (fun s k hs hk => ?_)
    · have L' := LL_add (EL' := EL2 G (kdT u sz) (vlT u sz) (up2 (up2 S.2.2 24 (S.1 22) (n3 (nbT u sz (i + 3)))) 25 (S.1 22) (n3 (nbT u sz (i + 5)))) (S.1 22 + 1) (wkF w (S.1 22 + 1) (updT kt (S.1 22) (txT u sz (i + 1))) u sz) (Lp G (PZ n0 rd (nmA u sz tx) TZ) h') os h') wf rc A (by omega) (by omega) a1 a4 p14 (fun z hz => hz.elim Or.inl (fun q => Or.inr (Or.inl q))) p7 p8 p9 p12 p13 (fun k j o k1 k2 hj E => EL2_kp osn E (fun d' fs q1 q2 => ob_kp wf rc A p14 hM q1 (by omega)) (fun q => ?_) (fun _ => ⟨rfl, rfl, rfl⟩) hP (Nat.le_succ _) (fun t ht => wkF_ext w1 ht) (fun l hl => hl)) ⟨fun _ => ?_, (fun q => by cases q), (fun q => by cases q)⟩
      · refine kk _ h' b' e1 ⟨ky', nd', iv', updT kt (S.1 22) (txT u sz (i + 1)), p2, Nat.le_trans n4l p14.1.1, p3, p6, p4, fun j hj => ?_, ⟨_, _, L', ?_, ?_, ?_, fun k k1 k2 => ?_⟩, p5, ob_kp wf rc A p14 hM hso (by decide), E0_kp wf rc A p14 hM hE0 rfl, SK.1, SK.2, X0, osl, osn, q20, q21, ?_, q26, q32, fun a q => ⟨(hT a q).1, Nat.lt_of_lt_of_le (hT a q).2 p14.1.1⟩⟩ p14.1 p16
        · have hj : j < S.1 22 + 1 := hj
          show updN S.2.1 (S.1 22) (nwT u sz (i + 1)) j = _ ∧ _
          by_cases c : j = S.1 22
          · rw [c, updN_same, updT_same]
            exact ⟨rfl, okn⟩
          · rw [updN_ne c, updT_ne c]
            exact nmr j (by omega)
        · show updN sz' 3 (sz' 3 + 1) 3 = S.1 22 + 1
          rw [updN_same, s3]
        · show updN sz' 3 (sz' 3 + 1) 4 = S.1 26
          rw [updN_ne (by decide), s4]
        · show updN sz' 3 (sz' 3 + 1) 5 = S.1 32
          rw [updN_ne (by decide), s5]
        · by_cases c : k = 3
          · rw [c, updN_same]
            rcases p12 with q | q
            · rw [q]
              exact hrr 3 (by omega) (by omega)
            · exact ⟨Or.inr (by omega), fun q' => by have := (hT _ q').2; omega⟩
          · rw [updN_ne c]
            exact hrr k k1 k2
        · show S.1 22 + 1 ≤ 6
          omega
      · rw [q] at hj
        have ne : j ≠ S.1 22 := by omega
        rw [r24, r25, upd_ne ne, upd_ne ne]
        exact ⟨rfl, rfl⟩
      · rw [p10, s3, r24, r25, upd_same, upd_same]
    · have cs := St.2.2 s k hs hk
      refine p14.2 _ _ cs ?_ ?_ rfl (fun q => ?_)
      · intro q
        rw [q, rc.2.1] at cs
        cases cs
      · intro q
        obtain ⟨v, hs', hz', e'⟩ := nmA_s rc.1 _ _ q cs
        cases e'
      · rcases ls_d wf a1 _ q _ _ cs with q' | q'
        · cases q'
        · rcases q with q | q
          · rw [q, a1.1] at cs
            cases cs
          · rcases a1.2.1 with ⟨q3, -⟩ | ⟨q3, -⟩
            · rw [q, q3, (wfH_z0 wf).1] at cs
              cases cs
            · rw [q, q3] at cs
              cases cs
theorem l2_find {co : Bool} (w1 : w ≠ 0) (C : wlC G) (W : W2m G u sz n0 tl ta tx rd w so m n2 n4 E0 F ad mcs TZ S os ky nd iv kt (i + 1) h) (hi : i + 1 ≤ nT u sz) (hf : tmp (kdT u sz) (i + 1) (cdF co) = .inl (i + 7)) (hi6 : i + 6 ≤ nT u sz) (hb : bud β b v) (hv : 100 ≤ v)
    (kf : ∀ e t h' q b', lFin (nbT u sz) (nwT u sz) S i co = .inr (e, t) → h'.2 q = some (aFt (n3 e) (plT u sz t)) → wfH G h' → fz n0 h h' → bud β b' 0 → Q (.inr q) h' b')
    (kk : ∀ S' h' b', lFin (nbT u sz) (nwT u sz) S i co = .inl S' → W2 G u sz n0 tl ta tx rd w so m n2 n4 E0 F ad mcs TZ S' os (i + 7) h' → fz n0 h h' → bud β b' (v - 60) → Q (.inl ()) h' b') : wp (fX7_find G rd (ta i) (bI co)) h b Q := by
  obtain ⟨wf, n4l, rc, mo, hiv, nmr, ⟨rr, sz', A, s3, s4, s5, hrr⟩, T, hso, hE0, St, T4, X0, osl, osn, q20, q21, q22, q26, q32, hT⟩ := W
  obtain ⟨x1, x2, x3, x4, x5, x6, x7, x8, x9, x10⟩ := id X0
  obtain ⟨mc, cap, f, a1, a2, a3, a4⟩ := A.1 4 (by omega) (by omega)
  have R := RW_of wf rc
  have ok6 : co = false → okN (txT u sz (i + 6)) := by
    intro q
    refine nm_ok hi6 ?_
    rw [(cdF_in hf).2.2.2.2.2, q]
    rfl
  refine w_find (F := F) (x := S.2.2) (ad := ad) (mcs := mcs) (nsN := S.1 20) (stN := S.1 21) C hiv R x1 (by omega) x3 T hi hso a1 a2 a3 (by omega) (fun j hj => by obtain ⟨o, o1, o2⟩ := a4 j hj; rw [o1]; exact EL2_ok wf (by omega) (by omega) o2) mo (fun _ => ⟨rfl, rfl, q20.2, q21.2, St⟩) (fun _ => x9) (fun _ => hf) hb hv (fun er t h' q b' p1 p2 p3 p4 p5 => ?_) (fun h' mc' r' cap' f' b' told o z0 q => absurd q w1) (fun h' mc' r' cap' f' b' told o _ p1 p2 p3 p4 p5 p6 p7 p8 p9 p10 p11 p12 p13 p14 p15 p16 p17 p18 p19 p20 p21 p22 => ?_)
  · rcases p1 with ⟨p1, -⟩ | ⟨-, p1⟩
    · exact absurd p1 w1
    · rw [s4] at p1
      obtain ⟨e, e1, rfl⟩ := fin_inr nmr q26 ok6 p1
      exact kf e t h' q b' e1 p2 p3 p4 p5
  · rw [s4] at p1 p4 p12 p13 p14 p19
    obtain ⟨x', e1, e2⟩ := fin_inl nmr q26 ok6 p1 (fun q => (p6 q).1) p7
    have c0 := St.2.2 _ _ p2 p3
    -- the tables
    have r24 : x' 24 = S.2.2 24 := e2 24 (by decide)
    have r25 : x' 25 = S.2.2 25 := e2 25 (by decide)
    have r31 : x' 31 = S.2.2 31 := e2 31 (by decide)
    have r27 : x' 27 = upd (S.2.2 27) (S.1 26) (bI co) := e2 27 (by decide)
    have r28 : x' 28 = upd (S.2.2 28) (S.1 26) (n3 (10 * nbT u sz (i + 2) + nbT u sz (i + 4))) := e2 28 (by decide)
    have r29 : x' 29 = upd (S.2.2 29) (S.1 26) told := e2 29 (by decide)
    have r30 : x' 30 = upd (S.2.2 30) (10 * nbT u sz (i + 2) + nbT u sz (i + 4)) (n3 (S.1 26)) := e2 30 (by decide)
    have hM : okM F rr h (fun a => a = F 4 ∨ a = rr 4 ∨ a = ad (100 + (10 * nbT u sz (i + 2) + nbT u sz (i + 4)))) := by
      rintro z (q | q | q)
      · exact Or.inl ⟨4, by omega, by omega, Or.inl q⟩
      · exact Or.inl ⟨4, by omega, by omega, Or.inr q⟩
      · exact Or.inr ⟨_, by rw [q]; exact c0⟩
    have hP := PZ_kp (TZ' := TZ) wf rc A X0 hT (fun k k1 k2 => (hrr k k1 k2).2) p20 hM (fun a q => q)
    have SK := STK_kp (x' := x') wf rc A X0 (fun k k1 k2 => (hrr k k1 k2).1) T4 St p20 hM (fun s k hs hk => ?_)
    · have L' := LL_add (EL' := EL2 G (kdT u sz) (vlT u sz) x' (S.1 22) (wkF w (S.1 22) kt u sz) (Lp G (PZ n0 rd (nmA u sz tx) TZ) h') os h') wf rc A (by omega) (by omega) a1 a4 p20 (fun z hz => ?_) (by rw [s4]; exact p12) (by rw [s4]; exact p13) (by rw [s4]; exact p14) p17 p18 (fun k j o k1 k2 hj E => EL2_kp osn E (fun d' fs q1 q2 => ob_kp wf rc A p20 hM q1 (by omega)) (fun _ => by rw [r24, r25]; exact ⟨rfl, rfl⟩) (fun q => ?_) hP (Nat.le_refl _) (fun t _ => rfl) (fun l hl => hl)) ⟨(fun q => by cases q), fun _ => ?_, (fun q => by cases q)⟩
      · refine kk _ h' b' e1 ⟨ky, nd, iv, kt, p8, Nat.le_trans n4l p20.1.1, p9, p11, hiv, nmr, ⟨_, _, L', ?_, ?_, ?_, fun k k1 k2 => ?_⟩, p10, ob_kp wf rc A p20 hM hso (by decide), E0_kp wf rc A p20 hM hE0 rfl, SK.1, SK.2, X0, osl, osn, q20, q21, q22, ?_, q32, fun a q => ⟨(hT a q).1, Nat.lt_of_lt_of_le (hT a q).2 p20.1.1⟩⟩ p20.1 p22
        · show updN sz' 4 (sz' 4 + 1) 3 = S.1 22
          rw [updN_ne (by decide), s3]
        · show updN sz' 4 (sz' 4 + 1) 4 = S.1 26 + 1
          rw [updN_same, s4]
        · show updN sz' 4 (sz' 4 + 1) 5 = S.1 32
          rw [updN_ne (by decide), s5]
        · by_cases c : k = 4
          · rw [c, updN_same]
            rcases p17 with q | q
            · rw [q]
              exact hrr 4 (by omega) (by omega)
            · exact ⟨Or.inr (by omega), fun q' => by have := (hT _ q').2; omega⟩
          · rw [updN_ne c]
            exact hrr k k1 k2
        · show S.1 26 + 1 ≤ 24
          omega
      · rcases hz with q | q | q
        · exact Or.inl q
        · exact Or.inr (Or.inl q)
        · exact Or.inr (Or.inr ⟨_, by rw [q]; exact c0⟩)
      · rw [q] at hj
        have ne : j ≠ S.1 26 := by omega
        rw [r27, r29, upd_ne ne, upd_ne ne]
        refine ⟨rfl, rfl, ?_⟩
        unfold strm
        rw [r28, upd_ne ne]
      · rw [p15, s4, r27, r29, upd_same, upd_same, strm_c (s := nbT u sz (i + 2)) (k := nbT u sz (i + 4)) (by omega) (by omega) (by rw [r28, upd_same])]
    · by_cases c : s = nbT u sz (i + 2) ∧ k = nbT u sz (i + 4)
      · obtain ⟨rfl, rfl⟩ := c
        rw [p19, r30, r31, upd_same]
      · have ne : 10 * s + k ≠ 10 * nbT u sz (i + 2) + nbT u sz (i + 4) := by
          intro q
          have := q21.2
          exact c ⟨by omega, by omega⟩
        have na : ad (100 + (10 * s + k)) ≠ ad (100 + (10 * nbT u sz (i + 2) + nbT u sz (i + 4))) := fun q => c (x10 _ _ _ _ hs p2 hk p3 q)
        have cs := St.2.2 s k hs hk
        rw [r30, r31, upd_ne ne]
        refine p20.2 _ _ cs ?_ ?_ rfl (fun q => ?_)
        · intro q
          rw [q, rc.2.1] at cs
          cases cs
        · intro q
          obtain ⟨v, hs', hz', e'⟩ := nmA_s rc.1 _ _ q cs
          cases e'
        · rcases q with q | q | q
          · rw [q, a1.1] at cs
            cases cs
          · rcases a1.2.1 with ⟨q3, -⟩ | ⟨q3, -⟩
            · rw [q, q3, (wfH_z0 wf).1] at cs
              cases cs
            · rw [q, q3] at cs
              cases cs
          · exact na q
end LN4
