/-! THE PLAIN LAW: digging and props -/
def bitc (a1 : Int32) : Int32 :=
  (fun x2 : Int32 => (fun x4 : Int32 => (fun x6 : Int32 => (fun x7 : Int32 => (x7 + ((x7.toUInt32 >>> ((16 : Int32).toUInt32 &&& Int32.toUInt32 31)).toInt32)) &&& 63) (x6 + ((x6.toUInt32 >>> ((8 : Int32).toUInt32 &&& Int32.toUInt32 31)).toInt32))) ((x4 + ((x4.toUInt32 >>> ((4 : Int32).toUInt32 &&& Int32.toUInt32 31)).toInt32)) &&& 252645135)) ((x2 &&& 858993459) + (((x2.toUInt32 >>> ((2 : Int32).toUInt32 &&& Int32.toUInt32 31)).toInt32) &&& 858993459))) (a1 - (((a1.toUInt32 >>> ((1 : Int32).toUInt32 &&& Int32.toUInt32 31)).toInt32) &&& 1431655765))
theorem j_bitCount {G : sd_G} {a : Int32} {h : sd_H} {b : Nat × Nat} {Q : Int32 → sd_H → Nat × Nat → Prop} : wp (fJ19_bitCount G a) h b Q = Q (bitc a) h b := by
  unfold fJ19_bitCount
  simp only [wp_bnd, wp_ret]
  rfl
/-- propped seats, counted one by one, up to ns of them -/
theorem bitc_cnt : ∀ ns, ns ≤ 8 → ∀ p, p < 2 ^ ns → bitc (n3 p) = cnt (fun s => decide (((n3 p >>> (n3 s &&& 31)) &&& 1) = 1)) ns := by
  have key : ∀ ns : Fin 9, ∀ p : Fin 256, p.val < 2 ^ ns.val → bitc (n3 p.val) = cnt (fun s => decide (((n3 p.val >>> (n3 s &&& 31)) &&& 1) = 1)) ns.val := by decide +kernel
  intro ns hn p hp
  have hp2 : p < 256 := Nat.lt_of_lt_of_le hp (Nat.pow_le_pow_right (n := 2) (by omega) (show ns ≤ 8 from hn))
  exact key ⟨ns, by omega⟩ ⟨p, hp2⟩ hp
theorem prop_or : ∀ ns, ns ≤ 8 → ∀ p, p < 2 ^ ns → ∀ s, s < ns → ∃ p', p' < 2 ^ ns ∧ n3 p ||| ((1 : Int32) <<< (n3 s &&& 31)) = n3 p' := by
  have key : ∀ ns : Fin 9, ∀ p : Fin 256, p.val < 2 ^ ns.val → ∀ s : Fin 8, s.val < ns.val → (p.val ||| 2 ^ s.val) < 2 ^ ns.val ∧ n3 p.val ||| ((1 : Int32) <<< (n3 s.val &&& 31)) = n3 (p.val ||| 2 ^ s.val) := by decide +kernel
  intro ns hn p hp s hs
  have hp2 : p < 256 := Nat.lt_of_lt_of_le hp (Nat.pow_le_pow_right (n := 2) (by omega) (show ns ≤ 8 from hn))
  exact ⟨_, (key ⟨ns, by omega⟩ ⟨p, hp2⟩ hp ⟨s, by omega⟩ hs)⟩
theorem prop_an : ∀ ns, ns ≤ 8 → ∀ p, p < 2 ^ ns → ∀ s, s < ns → ∃ p', p' < 2 ^ ns ∧ n3 p &&& (((1 : Int32) <<< (n3 s &&& 31)) ^^^ (-1)) = n3 p' := by
  have key : ∀ ns : Fin 9, ∀ p : Fin 256, p.val < 2 ^ ns.val → ∀ s : Fin 8, s.val < ns.val → (p.val &&& (255 - 2 ^ s.val)) < 2 ^ ns.val ∧ n3 p.val &&& (((1 : Int32) <<< (n3 s.val &&& 31)) ^^^ (-1)) = n3 (p.val &&& (255 - 2 ^ s.val)) := by decide +kernel
  intro ns hn p hp s hs
  have hp2 : p < 256 := Nat.lt_of_lt_of_le hp (Nat.pow_le_pow_right (n := 2) (by omega) (show ns ≤ 8 from hn))
  exact ⟨_, (key ⟨ns, by omega⟩ ⟨p, hp2⟩ hp ⟨s, by omega⟩ hs)⟩
/-- the highest cushion of s is taken away; what is found -/
def dg1 (x : Nat → Nat → Int32) (t : TT) (s : Nat) : TT := (upd t.1 2 (t.1 2 + 1), updN t.2.1 s (t.2.1 s - 1), t.2.2.1, t.2.2.2.1, if x 30 (topC t s) = -1 then t.2.2.2.2 else upd t.2.2.2.2 (x 30 (topC t s)).toNatClampNeg (if t.2.2.2.1 (topC t s) = 1 then 1 else 2))
def digT (ns : Nat) (x : Nat → Nat → Int32) (t : TT) (s : Nat) : TT := setl ns (x 31) (dg1 x t s)
def addP (t : TT) (s : Nat) : TT := (upd t.1 4 (t.1 4 ||| ((1 : Int32) <<< (n3 s &&& 31))), t.2)
def subP (t : TT) (s : Nat) : TT := (upd t.1 4 (t.1 4 &&& (((1 : Int32) <<< (n3 s &&& 31)) ^^^ (-1))), t.2)
theorem okT_dg1 {q : Nat → Nat} {x : Nat → Nat → Int32} {t : TT} {s : Nat} (hP : okP q x) (ok : okT (q 20) (q 26) t) (hs : s < q 20) (h : 1 ≤ t.2.1 s) : okT (q 20) (q 26) (dg1 x t s) := by
  have htop := ok.top hs h
  obtain ⟨q1, q2, q3, q4, q5, q6, q7⟩ := ok
  refine ⟨q1, q2, ?_, ?_, q5, ?_, q7⟩
  · intro r hr
    show updN t.2.1 s (t.2.1 s - 1) r ≤ 10
    unfold updN
    have := q3 r hr
    split
    · next e => subst e; omega
    · exact this
  · intro r k hr hk
    refine q4 r k hr ?_
    have hk' : k < updN t.2.1 s (t.2.1 s - 1) r := hk
    unfold updN at hk'
    split at hk'
    · next e => subst e; omega
    · exact hk'
  · intro f
    show ((if x 30 (topC t s) = -1 then t.2.2.2.2 else upd t.2.2.2.2 (x 30 (topC t s)).toNatClampNeg (if t.2.2.2.1 (topC t s) = 1 then 1 else 2)) f = 0 ∨ (if x 30 (topC t s) = -1 then t.2.2.2.2 else upd t.2.2.2.2 (x 30 (topC t s)).toNatClampNeg (if t.2.2.2.1 (topC t s) = 1 then 1 else 2)) f = 1 ∨ (if x 30 (topC t s) = -1 then t.2.2.2.2 else upd t.2.2.2.2 (x 30 (topC t s)).toNatClampNeg (if t.2.2.2.1 (topC t s) = 1 then 1 else 2)) f = 2) ∧ (q 26 ≤ f → (if x 30 (topC t s) = -1 then t.2.2.2.2 else upd t.2.2.2.2 (x 30 (topC t s)).toNatClampNeg (if t.2.2.2.1 (topC t s) = 1 then 1 else 2)) f = 0)
    split
    · exact q6 f
    · next c1 =>
      obtain ⟨c2 | ⟨f0, c2, c3, -⟩, -⟩ := hP.2.2.2.2.2.2 (topC t s) htop
      · exact absurd c2 c1
      · have q8 := hP.2.2.2.1
        rw [c3, n3_nn (by omega)]
        unfold upd
        split
        · next e =>
          refine ⟨?_, fun hq => by omega⟩
          split
          · exact Or.inr (Or.inl rfl)
          · exact Or.inr (Or.inr rfl)
        · exact q6 f
theorem okT_nu {ns nf : Nat} {t : TT} {i : Nat} {z : Int32} (ok : okT ns nf t) (hi : i ≠ 4) : okT ns nf (upd t.1 i z, t.2) := by
  obtain ⟨q1, q2, q3, q4, q5, q6, p, q7, q8⟩ := ok
  exact ⟨q1, q2, q3, q4, q5, q6, p, by show upd t.1 i z 4 = n3 p; rw [upd_ne (fun e => hi e.symm)]; exact q7, q8⟩
theorem okT_setl {ns nf : Nat} {sp : Nat → Int32} {t : TT} (ok : okT ns nf t) : okT ns nf (setl ns sp t) := okT_nu (stl_ok ok) (by decide)
theorem okT_addP {ns nf : Nat} {t : TT} {s : Nat} (ok : okT ns nf t) (hs : s < ns) : okT ns nf (addP t s) := by
  obtain ⟨q1, q2, q3, q4, q5, q6, p, q7, q8⟩ := ok
  obtain ⟨p', h1, h2⟩ := prop_or ns q2 p q8 s hs
  rw [← q7] at h2
  exact ⟨q1, q2, q3, q4, q5, q6, p', h2, h1⟩
theorem okT_subP {ns nf : Nat} {t : TT} {s : Nat} (ok : okT ns nf t) (hs : s < ns) : okT ns nf (subP t s) := by
  obtain ⟨q1, q2, q3, q4, q5, q6, p, q7, q8⟩ := ok
  obtain ⟨p', h1, h2⟩ := prop_an ns q2 p q8 s hs
  rw [← q7] at h2
  exact ⟨q1, q2, q3, q4, q5, q6, p', h2, h1⟩
section MD
variable {n : Nat} {ρ : Nat → Option Nat} {ad : Nat → Nat} {K : Nat → Option sd_E} {v : Nat → Int32} {x : Nat → Nat → Int32} {y : Nat → Nat → Int64} {G : sd_G} {t : TT} {b : Nat × Nat} {h : sd_H} {q : Nat → Nat}
theorem m_digs {s : Nat} {Q : Int32 → sd_H → Nat × Nat → Prop} (E : mOk n ρ ad) (hp : ad 4 = ad 20) (hv : okV q v) (hP : okP q x) (ok : okT (q 20) (q 26) t) (hs : s < q 20) (h1 : 1 ≤ t.2.1 s) : wp (fX5_digs G (ad 0) (n3 s)) (hMo n ρ ad K v (sx x (enc t)) y) b Q = Q (x 30 (topC t s)) (hMo n ρ ad K v (sx x (enc (digT (q 20) x t s))) y) b := by
  have q2 := ok.2.1
  have q3 := ok.2.2.1 s hs
  have q4 := ok.top hs h1
  have q5 := okT_dg1 hP ok hs h1
  have q6 := hP.2.2.2.1
  unfold fX5_digs fX5_digs_b70
  by_cases c1 : x 30 (topC t s) = -1
  · have e : dg1 x t s = (upd t.1 2 (t.1 2 + 1), updN t.2.1 s (t.2.1 s - 1), t.2.2) := by
      unfold dg1
      rw [if_pos c1]
    rw [e] at q5
    simp (disch := omega) only [↓wp_bnd, ↓wp_ret, ↓wp_ite, ↓reduceIte, ↓mFl E, ↓mPu E, ↓mAr E, mAr E, ↓mAs E, mAs E, ald_lit, ast_lit, hp, m_top E, sxs, up2_sx, n3_ladd, n3_subl, enc_tl, enc_utl, enc_nu, enc_unu, c1]
    unfold digT
    rw [m_settle E hp hv.1 q5, e]
  · obtain ⟨c2, f, hf, c3, c4⟩ | ⟨f, hf, c3, c4⟩ := (show (x 30 (topC t s) = -1 ∧ ∃ f, f < q 26 ∧ x 30 (topC t s) = n3 f ∧ x 28 f = n3 (topC t s)) ∨ ∃ f, f < q 26 ∧ x 30 (topC t s) = n3 f ∧ x 28 f = n3 (topC t s) from by
      obtain ⟨c2 | c2, -⟩ := hP.2.2.2.2.2.2 (topC t s) q4
      · exact absurd c2 c1
      · exact Or.inr c2)
    · exact absurd c2 c1
    · have hf3 : ¬ (n3 f = -1) := by
        rw [← c3]
        exact c1
      have e : dg1 x t s = (upd t.1 2 (t.1 2 + 1), updN t.2.1 s (t.2.1 s - 1), t.2.2.1, t.2.2.2.1, upd t.2.2.2.2 f (if t.2.2.2.1 (topC t s) = 1 then 1 else 2)) := by
        unfold dg1
        rw [if_neg c1, c3, n3_nn (by omega)]
      by_cases c5 : t.2.2.2.1 (topC t s) = 1
      · rw [if_pos c5] at e
        rw [e] at q5
        simp (disch := omega) only [↓wp_bnd, ↓wp_ret, ↓wp_ite, ↓reduceIte, ↓mFl E, ↓mPu E, ↓mAr E, mAr E, ↓mAs E, mAs E, ald_lit, ast_lit, hp, m_top E, sxs, up2_sx, n3_ladd, n3_subl, enc_tl, enc_utl, enc_nu, enc_unu, c3, hf3, enc_lo, c5, enc_uft]
        unfold digT
        rw [m_settle E hp hv.1 q5, e]
      · rw [if_neg c5] at e
        rw [e] at q5
        simp (disch := omega) only [↓wp_bnd, ↓wp_ret, ↓wp_ite, ↓reduceIte, ↓mFl E, ↓mPu E, ↓mAr E, mAr E, ↓mAs E, mAs E, ald_lit, ast_lit, hp, m_top E, sxs, up2_sx, n3_ladd, n3_subl, enc_tl, enc_utl, enc_nu, enc_unu, c3, hf3, enc_lo, c5, enc_uft]
        unfold digT
        rw [m_settle E hp hv.1 q5, e]
theorem m_isP3 {Q : Int32 → sd_H → Nat × Nat → Prop} (E : mOk n ρ ad) : wp (fX5_isPropped3 G (ad 0)) (hMo n ρ ad K v (sx x (enc t)) y) b Q = if bitc (t.1 4) < 3 then Q 0 (hMo n ρ ad K v (sx x (enc t)) y) b else Q 1 (hMo n ρ ad K v (sx x (enc t)) y) b := by
  unfold fX5_isPropped3
  simp (disch := omega) only [↓wp_bnd, ↓wp_ret, ↓wp_ite, ↓reduceIte, ↓mFl E, ↓mPu E, ↓mAr E, mAr E, ↓mAs E, mAs E, ald_lit, sxs, enc_nu, j_bitCount]
end MD
