/-! plain law: resonances, arcs -/
set_option maxRecDepth 100000
section OPS
variable {K : Nat} {M : Nat → Int32} {F : Nat → Nat → Int32} {X : Nat → Int32} {XF : Nat → Nat → Int32} {G : Nat → Nat → Int64} {g gx : Nat → Int64} {P : Nat → Nat → Option Nat}
abbrev resP (before now : Int64) : Prop := now = 0 ∨ (before < 0 ∧ 0 < now) ∨ (0 < before ∧ now < 0)
theorem resPi {b n : Int64} : resP b n ↔ n.toInt = 0 ∨ (b.toInt < 0 ∧ 0 < n.toInt) ∨ (0 < b.toInt ∧ n.toInt < 0) := by
  unfold resP
  rw [eq64, lt64, lt64, lt64, lt64]
  rfl
theorem z64 : (0 : Int64).toInt = 0 := rfl
theorem resStep (h : CR M F X XF G) (hK : 40 ≤ K) (m : Nat) (l f : Int32) (b : Int64) : fX0_resonance_L34 K (m + 1) l b f (X, gx, XF, G, P) = if F 11 ((M 10).toNatClampNeg - 1) < f then some (-2, (X, gx, XF, G, P)) else if resP b (itp M F 13 f) then (if l = 0 then some (f, (X, gx, XF, G, P)) else fX0_resonance_L34 K m (l - 1) (itp M F 13 f) (f + 1) (X, gx, XF, G, P)) else fX0_resonance_L34 K m l (itp M F 13 f) (f + 1) (X, gx, XF, G, P) := by
  have hp := h.t.v_pts
  have hn := h.t.nP
  have e49 := h.t.pts
  have e1 : (M 10 - 1).toInt = (M 10).toInt - 1 := by rw [s32, k32_1] <;> (try rw [k32_1]) <;> omega
  have e2 := nn32 (a := M 10 - 1) (by omega)
  have e3 : (M 10 - 1).toNatClampNeg = (M 10).toNatClampNeg - 1 := by omega
  have hx : ix (M 10 - 1) 16 := ⟨by omega, by omega⟩
  have hfr := h.t.fr ((M 10).toNatClampNeg - 1) (by omega)
  rw [fX0_resonance_L34]
  simp only [e49, ga_t hx, e3, hfr]
  by_cases c : F 11 ((M 10).toNatClampNeg - 1) < f
  · rw [if_pos c, if_pos c]
  · rw [if_neg c, if_neg c, b1_e (reaX h.t (by omega) f)]
    generalize itp M F 13 f = now
    have t1 : fX0_resonance_L100 K (fX0_resonance_L34 K m) l f now (X, gx, XF, G, P) = if l = 0 then some (f, (X, gx, XF, G, P)) else fX0_resonance_L34 K m (l - 1) now (f + 1) (X, gx, XF, G, P) := by
      unfold fX0_resonance_L100 fX0_resonance_L105
      rw [if_neg (by decide)]
      by_cases cl : l = 0
      · rw [if_pos cl, if_pos cl]
      · rw [if_neg cl, if_neg cl]
        unfold fX0_resonance_L119
        rw [if_neg (by decide)]
        rfl
    have t0 : fX0_resonance_L104 K (fX0_resonance_L34 K m) l f now (X, gx, XF, G, P) = fX0_resonance_L34 K m l now (f + 1) (X, gx, XF, G, P) := by
      unfold fX0_resonance_L104 fX0_resonance_L105
      rw [if_pos rfl]
      unfold fX0_resonance_L119
      rw [if_pos rfl]
      unfold fX0_resonance_L130
      simp only [nm]
      rw [Int32.sub_zero]
    unfold fX0_resonance_L87
    rw [t1, t0]
    by_cases c0 : now = 0
    · rw [if_pos c0, if_pos (show resP b now from Or.inl c0)]
    · rw [if_neg c0]
      rw [eq64, z64] at c0
      by_cases c1 : (0 : Int64) ≤ b
      · rw [if_pos c1]
        rw [le64, z64] at c1
        by_cases c2 : b ≤ 0
        · rw [if_pos c2]
          rw [le64, z64] at c2
          rw [if_neg (show ¬ resP b now by rw [resPi]; omega)]
        · rw [if_neg c2]
          rw [le64, z64] at c2
          by_cases c3 : (0 : Int64) ≤ now
          · rw [if_pos c3]
            rw [le64, z64] at c3
            rw [if_neg (show ¬ resP b now by rw [resPi]; omega)]
          · rw [if_neg c3]
            rw [le64, z64] at c3
            rw [if_pos (show resP b now by rw [resPi]; omega)]
      · rw [if_neg c1]
        rw [le64, z64] at c1
        by_cases c2 : (0 : Int64) < now
        · rw [if_pos c2]
          rw [lt64, z64] at c2
          rw [if_pos (show resP b now by rw [resPi]; omega)]
        · rw [if_neg c2]
          rw [lt64, z64] at c2
          rw [if_pos (show b ≤ 0 by rw [le64, z64]; omega)]
          rw [if_neg (show ¬ resP b now by rw [resPi]; omega)]
end OPS
section OPS
variable {K : Nat} {M : Nat → Int32} {F : Nat → Nat → Int32} {X : Nat → Int32} {XF : Nat → Nat → Int32} {G : Nat → Nat → Int64} {g gx : Nat → Int64} {P : Nat → Nat → Option Nat}
theorem isResM (h : CR M F X XF G) (hK : 40 ≤ K) (f : Int32) (b : Int64) (hb : (f = F 11 0 ∧ b = 0) ∨ (f ≠ F 11 0 ∧ b = itp M F 13 (f - 1))) : fX4_isResonance K f (M, g, F) = some (decide (resP b (itp M F 13 f)), (M, g, F)) := by
  unfold fX4_isResonance
  rw [b2_e (reaM h.t (by omega) f)]
  have hx : ix (0 : Int32) 16 := by decide
  simp only [ga_t hx]
  by_cases c0 : itp M F 13 f = 0
  · rw [if_pos c0, decide_eq_true (show resP b _ from Or.inl c0)]
  · rw [if_neg c0]
    rcases hb with ⟨h1, h2⟩ | ⟨h1, h2⟩
    · rw [if_pos (show f = F 11 (0 : Int32).toNatClampNeg from h1)]
      rw [decide_eq_false (show ¬ resP b _ by rw [h2]; rw [eq64, z64] at c0; rw [resPi, z64]; omega)]
    · rw [if_neg (show ¬ f = F 11 (0 : Int32).toNatClampNeg from h1), b2_e (reaM h.t (by omega) (f - 1)), ← h2]
      generalize itp M F 13 f = now at *
      rw [eq64, z64] at c0
      unfold fX4_isResonance_L48
      by_cases c1 : now ≤ 0
      · rw [if_pos c1]
        rw [le64, z64] at c1
        rw [if_neg (show ¬ (0 : Int64) ≤ now by rw [le64, z64]; omega)]
        by_cases c2 : b ≤ 0
        · rw [if_pos c2]
          rw [le64, z64] at c2
          rw [decide_eq_false (show ¬ resP b now by rw [resPi]; omega)]
        · rw [if_neg c2]
          rw [le64, z64] at c2
          rw [decide_eq_true (show resP b now by rw [resPi]; omega)]
      · rw [if_neg c1]
        rw [le64, z64] at c1
        by_cases c2 : b < 0
        · rw [if_pos c2]
          rw [lt64, z64] at c2
          rw [decide_eq_true (show resP b now by rw [resPi]; omega)]
        · rw [if_neg c2, if_pos (show (0 : Int64) ≤ now by rw [le64, z64]; omega)]
          rw [lt64, z64] at c2
          rw [decide_eq_false (show ¬ resP b now by rw [resPi]; omega)]
end OPS
section OPS
variable {K : Nat} {M : Nat → Int32} {F : Nat → Nat → Int32} {X : Nat → Int32} {XF : Nat → Nat → Int32} {G : Nat → Nat → Int64} {g gx : Nat → Int64} {P : Nat → Nat → Option Nat}
theorem om1 {a b : Int} (h : a = b + -1) (h0 : 0 ≤ b) (h1 : ¬ b = 0) : 0 ≤ a := by omega
theorem res_L (h : CR M F X XF G) (hK : 40 ≤ K) (n : Nat) : ∀ (m : Nat) (l f : Int32) (b : Int64), 0 ≤ l.toInt → ((f = F 11 0 ∧ b = 0) ∨ (f ≠ F 11 0 ∧ b = itp M F 13 (f - 1))) → (F 11 0).toInt ≤ f.toInt → f.toInt ≤ 30001 → (F 11 ((M 10).toNatClampNeg - 1)).toInt - f.toInt < n → n + 1 ≤ m → RO (fX4_resonance_L30 K m l f (M, g, F)) (fX0_resonance_L34 K m l b f (X, gx, XF, G, P)) M F X XF G P := by
  have hp := h.t.v_pts
  have hn := h.t.nP
  have hl := h.t.v_fr ((M 10).toNatClampNeg - 1) (by omega)
  have hl0 := h.t.v_fr 0 (by omega)
  have e1 : (M 10 - 1).toInt = (M 10).toInt - 1 := by rw [s32, k32_1] <;> (try rw [k32_1]) <;> omega
  have e2 := nn32 (a := M 10 - 1) (by omega)
  have e3 : (M 10 - 1).toNatClampNeg = (M 10).toNatClampNeg - 1 := by omega
  have hx : ix (M 10 - 1) 16 := ⟨by omega, by omega⟩
  induction n with
  | zero =>
    intro m l f b h0 hb h1 h2 h3 hm
    obtain ⟨m, rfl⟩ : ∃ k, m = k + 1 := ⟨m - 1, by omega⟩
    have c : F 11 ((M 10).toNatClampNeg - 1) < f := by rw [lt32]; omega
    refine ⟨-2, g, X, gx, ?_, ?_, fun _ _ => rfl⟩
    · rw [fX4_resonance_L30]
      simp only [ga_t hx, e3]
      rw [if_pos c]
    · rw [resStep h hK, if_pos c]
  | succ n ih =>
    intro m l f b h0 hb h1 h2 h3 hm
    obtain ⟨m, rfl⟩ : ∃ k, m = k + 1 := ⟨m - 1, by omega⟩
    rw [resStep h hK, fX4_resonance_L30]
    simp only [ga_t hx, e3]
    by_cases c : F 11 ((M 10).toNatClampNeg - 1) < f
    · rw [if_pos c, if_pos c]
      exact ⟨-2, g, X, gx, rfl, rfl, fun _ _ => rfl⟩
    · rw [if_neg c, if_neg c, b2_e (isResM h hK f b hb)]
      rw [lt32] at c
      have ef : (f + 1).toInt = f.toInt + 1 := by rw [a32, k32_1] <;> (try rw [k32_1]) <;> omega
      have hb' : (f + 1 = F 11 0 ∧ itp M F 13 f = 0) ∨ (f + 1 ≠ F 11 0 ∧ itp M F 13 f = itp M F 13 (f + 1 - 1)) := by
        right
        refine ⟨fun q => ?_, ?_⟩
        · rw [eq32] at q; omega
        · congr 1
          rw [eq32, s32, ef, k32_1] <;> (try rw [ef, k32_1]) <;> omega
      by_cases cr : resP b (itp M F 13 f)
      · rw [if_pos cr, if_pos (decide_eq_true cr)]
        by_cases c0 : l = 0
        · rw [if_pos c0, if_pos c0]
          exact ⟨f, g, X, gx, rfl, rfl, fun _ _ => rfl⟩
        · rw [if_neg c0, if_neg c0]
          rw [eq32, k32_0] at c0
          have el : l - 1 = l + -1 := by
            have a1 : (l - 1).toInt = l.toInt - 1 := by rw [s32, k32_1] <;> (try rw [k32_1]) <;> (have := u32 l; omega)
            have a2 : (l + -1).toInt = l.toInt + -1 := by rw [a32, k32_m1] <;> (try rw [k32_m1]) <;> (have := u32 l; omega)
            rw [eq32, a1, a2]; rfl
          have a2 : (l + -1).toInt = l.toInt + -1 := by rw [a32, k32_m1] <;> (try rw [k32_m1]) <;> (have := u32 l; omega)
          rw [el]
          have q0 : 0 ≤ (l + -1).toInt := om1 a2 h0 c0
          clear a2 el c0
          have q1 : (F 11 0).toInt ≤ (f + 1).toInt := by clear hb hb' cr ih; omega
          have q2 : (f + 1).toInt ≤ 30001 := by clear hb hb' cr ih; omega
          have q3 : (F 11 ((M 10).toNatClampNeg - 1)).toInt - (f + 1).toInt < n := by clear hb hb' cr ih; omega
          clear hb h1 h2 h3 h0
          exact ih m (l + -1) (f + 1) (itp M F 13 f) q0 hb' q1 q2 q3 (Nat.le_of_succ_le_succ hm)
      · rw [if_neg cr, if_neg (show ¬ decide (resP b (itp M F 13 f)) = true by rw [decide_eq_false cr]; decide)]
        exact ih m l (f + 1) _ h0 hb' (by omega) (by omega) (by omega) (by omega)
theorem p_res (h : CR M F X XF G) (hK : 30000 ≤ K) (l : Int32) : RO (fX4_resonance K l (M, g, F)) (fX0_resonance K l (X, gx, XF, G, P)) M F X XF G P := by
  have hp := h.t.v_pts
  have hn := h.t.nP
  have hl0 := h.t.v_fr 0 (by omega)
  have hl := h.t.v_fr ((M 10).toNatClampNeg - 1) (by omega)
  have e46 := h.t.fr 0 (by omega)
  by_cases hb : 0 ≤ l.toInt ∧ l.toInt ≤ 100
  · obtain ⟨r, g1, X2, g2, c1, c2, c3⟩ := res_L (g := g) (gx := gx) (P := P) h (by omega : 40 ≤ K) 28501 K l (F 11 0) 0 hb.1 (Or.inl ⟨rfl, rfl⟩) (Int.le_refl _) (by omega) (by omega) (by omega)
    refine ⟨r, g1, X2, g2, ?_, ?_, c3⟩
    · unfold fX4_resonance
      rw [if_neg h.nl]
      refine (b1_e (isInM K _ _ _)).trans ?_
      rw [w64, show decide ((0 : Int64).toInt ≤ l.toInt ∧ l.toInt ≤ (100 : Int64).toInt) = true from decide_eq_true hb, if_pos rfl, ga_t (by decide)]
      refine nm_i fun v hv => ?_
      have hv : v = F 11 0 := hv
      rw [hv]
      exact c1
    · unfold fX0_resonance
      rw [b2_e (readyX K _), if_pos rfl]
      refine (b1_e (isInX K _ _ _)).trans ?_
      rw [show decide ((0 : Int32).toInt ≤ l.toInt ∧ l.toInt ≤ (100 : Int32).toInt) = true from decide_eq_true hb, if_pos rfl]
      refine nm_i fun v hv => ?_
      have hv : v = F 11 0 := hv.trans e46
      rw [hv]
      exact c2
  · refine ⟨-1, g, X, gx, ?_, ?_, fun _ _ => rfl⟩
    · unfold fX4_resonance
      rw [if_neg h.nl]
      refine (b1_e (isInM K _ _ _)).trans ?_
      rw [w64, show decide ((0 : Int64).toInt ≤ l.toInt ∧ l.toInt ≤ (100 : Int64).toInt) = false from decide_eq_false hb]
      rfl
    · unfold fX0_resonance
      rw [b2_e (readyX K _), if_pos rfl]
      refine (b1_e (isInX K _ _ _)).trans ?_
      rw [show decide ((0 : Int32).toInt ≤ l.toInt ∧ l.toInt ≤ (100 : Int32).toInt) = false from decide_eq_false hb]
      rfl
end OPS
section OPS
variable {K : Nat} {M : Nat → Int32} {F : Nat → Nat → Int32} {X : Nat → Int32} {XF : Nat → Nat → Int32} {G : Nat → Nat → Int64} {g gx : Nat → Int64} {P : Nat → Nat → Option Nat}
/-! arcs -/
theorem arcs_L (h : CR M F X XF G) (hK : 40 ≤ K) (w : Int32) (hw : 11 ≤ w.toInt ∧ w.toInt ≤ 100) (n : Nat) : ∀ (m : Nat) (c k : Int32), 1 ≤ k.toInt → k.toInt ≤ 101 → (F 0 4).toInt - k.toInt < n → n + 1 ≤ m → RO (fX4_arcsNoticed_L27 K m w c k (M, g, F)) (fX0_arcsNoticed_L24 K m w c k (X, gx, XF, G, P)) M F X XF G P := by
  have h4 := h.s.v_rc
  have e66 := h.s.rc
  have hx4 : ix (4 : Int32) 254 := by decide
  have e4 : (4 : Int32).toNatClampNeg = 4 := rfl
  have k5 : (5 : Int32).toInt = 5 := rfl
  have k105 : (105 : Int32).toInt = 105 := rfl
  have k10 : (10 : Int64).toInt = 10 := by decide
  induction n with
  | zero =>
    intro m c k h1 h2 h3 hm
    obtain ⟨m, rfl⟩ : ∃ k, m = k + 1 := ⟨m - 1, by omega⟩
    refine ⟨c, g, X, gx, ?_, ?_, fun _ _ => rfl⟩
    · rw [fX4_arcsNoticed_L27]
      simp only [ga_t hx4, e4]
      rw [if_pos (by rw [le32]; omega)]
    · rw [fX0_arcsNoticed_L24]
      simp only [e66]
      rw [if_pos (by rw [le32]; omega)]
  | succ n ih =>
    intro m c k h1 h2 h3 hm
    obtain ⟨m, rfl⟩ : ∃ k, m = k + 1 := ⟨m - 1, by omega⟩
    rw [fX4_arcsNoticed_L27, fX0_arcsNoticed_L24]
    simp only [ga_t hx4, e4, e66]
    by_cases c0 : F 0 4 ≤ k
    · rw [if_pos c0, if_pos c0]
      exact ⟨c, g, X, gx, rfl, rfl, fun _ _ => rfl⟩
    · rw [if_neg c0, if_neg c0]
      rw [le32] at c0
      have s1 : (5 + k).toInt = 5 + k.toInt := by rw [a32, k5] <;> (try rw [k5]) <;> omega
      have s2 : (5 + k - 1).toInt = 5 + k.toInt - 1 := by rw [s32, s1, k32_1] <;> (try rw [s1, k32_1]) <;> omega
      have s3 : (105 + k).toInt = 105 + k.toInt := by rw [a32, k105] <;> (try rw [k105]) <;> omega
      have s4 : (k - 1).toInt = k.toInt - 1 := by rw [s32, k32_1] <;> (try rw [k32_1]) <;> omega
      have s5 : (k + 1).toInt = k.toInt + 1 := by rw [a32, k32_1] <;> (try rw [k32_1]) <;> omega
      have i1 : ix (5 + k) 254 := ⟨by omega, by omega⟩
      have i2 : ix (5 + k - 1) 254 := ⟨by omega, by omega⟩
      have i3 : ix (105 + k) 254 := ⟨by omega, by omega⟩
      have i4 : ix k 100 := ⟨by omega, by omega⟩
      have i5 : ix (k - 1) 100 := ⟨by omega, by omega⟩
      have n0 := nn32 (a := k) (by omega)
      have n1 := nn32 (a := 5 + k) (by omega)
      have n2 := nn32 (a := 5 + k - 1) (by omega)
      have n3 := nn32 (a := 105 + k) (by omega)
      have n4 := nn32 (a := k - 1) (by omega)
      have m1 : (5 + k).toNatClampNeg = 5 + k.toNatClampNeg := by omega
      have m2 : (5 + k - 1).toNatClampNeg = 5 + (k - 1).toNatClampNeg := by omega
      have m3 : (105 + k).toNatClampNeg = 105 + k.toNatClampNeg := by omega
      have r1 := h.s.rd k.toNatClampNeg (by omega)
      have r2 := h.s.rd (k - 1).toNatClampNeg (by omega)
      have r3 := h.s.fs k.toNatClampNeg (by omega)
      have v1 := h.s.v_rd k.toNatClampNeg (by omega)
      have v2 := h.s.v_rd (k - 1).toNatClampNeg (by omega)
      simp only [ga_t i1, ga_t i2, ga_t i4, ga_t i5, m1, m2, r1, r2, r3]
      generalize F 0 (5 + k.toNatClampNeg) = a at *
      generalize F 0 (5 + (k - 1).toNatClampNeg) = b at *
      have p1 := mul_b (a := w.toInt) (b := b.toInt) (A := 100) (B := 99999) (by omega) hw.2 v2.1 v2.2
      have q1 : ((10 : Int64) * a.toInt64).toInt = 10 * a.toInt := by rw [m64, k10, w64] <;> (try rw [k10, w64]) <;> omega
      have q2 : (w.toInt64 * b.toInt64).toInt = w.toInt * b.toInt := by rw [m64, w64, w64] <;> (try rw [w64, w64]) <;> omega
      have q3 : ((10 : Int32) * a).toInt = 10 * a.toInt := by rw [m32, k32_10] <;> (try rw [k32_10]) <;> omega
      have q4 : (w * b).toInt = w.toInt * b.toInt := m32 (by omega) (by omega)
      have hm73 : ∀ t : Int32, fX4_arcsNoticed_L73 K (fX4_arcsNoticed_L27 K m) t w c k (M, g, F) = if F 0 (105 + k.toNatClampNeg) = 0 then (if t = 0 then fX4_arcsNoticed_L27 K m w c (k + 1) (M, g, F) else fX4_arcsNoticed_L27 K m w (c + 1) (k + 1) (M, g, F)) else fX4_arcsNoticed_L27 K m w c (k + 1) (M, g, F) := fun t => by
        unfold fX4_arcsNoticed_L73
        simp only [ga_t i3, m3]
      have hx80 : fX0_arcsNoticed_L80 K (fX0_arcsNoticed_L24 K m) c w k (X, gx, XF, G, P) = fX0_arcsNoticed_L24 K m w c (k + 1) (X, gx, XF, G, P) := by
        unfold fX0_arcsNoticed_L80 fX0_arcsNoticed_L81
        simp only [nm]
        rw [Int32.add_zero]
      have hx81 : fX0_arcsNoticed_L81 K (fX0_arcsNoticed_L24 K m) 1 c w k (X, gx, XF, G, P) = fX0_arcsNoticed_L24 K m w (c + 1) (k + 1) (X, gx, XF, G, P) := rfl
      rw [hm73, hm73, hx80, hx81]
      by_cases cf : F 0 (105 + k.toNatClampNeg) = 0
      · simp only [if_pos cf]
        by_cases cc : (10 : Int64) * a.toInt64 < w.toInt64 * b.toInt64
        · rw [if_pos cc, if_pos (show (10 : Int32) * a < w * b by rw [lt64] at cc; rw [lt32]; omega)]
          exact ih m c (k + 1) (by omega) (by omega) (by omega) (by omega)
        · rw [if_neg cc, if_neg (show ¬ (10 : Int32) * a < w * b by rw [lt64] at cc; rw [lt32]; omega), if_neg (by decide)]
          exact ih m (c + 1) (k + 1) (by omega) (by omega) (by omega) (by omega)
      · simp only [if_neg cf]
        rw [ite_self]
        exact ih m c (k + 1) (by omega) (by omega) (by omega) (by omega)
theorem p_arcs (h : CR M F X XF G) (hK : 200 ≤ K) (w : Int32) : RO (fX4_arcsNoticed K w (M, g, F)) (fX0_arcsNoticed K w (X, gx, XF, G, P)) M F X XF G P := by
  have h4 := h.s.v_rc
  by_cases hb : 11 ≤ w.toInt ∧ w.toInt ≤ 100
  · obtain ⟨r, g1, X2, g2, c1, c2, c3⟩ := arcs_L (g := g) (gx := gx) (P := P) h (by omega : 40 ≤ K) w hb 101 K 0 1 (by decide) (by decide) (by rw [k32_1]; omega) (by omega)
    refine ⟨r, g1, X2, g2, ?_, ?_, c3⟩
    · unfold fX4_arcsNoticed
      rw [if_neg h.nl]
      refine (b1_e (isInM K _ _ _)).trans ?_
      rw [w64, show decide ((11 : Int64).toInt ≤ w.toInt ∧ w.toInt ≤ (100 : Int64).toInt) = true from decide_eq_true hb, if_pos rfl]
      exact c1
    · unfold fX0_arcsNoticed
      rw [b2_e (readyX K _), if_pos rfl]
      refine (b1_e (isInX K _ _ _)).trans ?_
      rw [show decide ((11 : Int32).toInt ≤ w.toInt ∧ w.toInt ≤ (100 : Int32).toInt) = true from decide_eq_true hb, if_pos rfl]
      exact c2
  · refine ⟨-1, g, X, gx, ?_, ?_, fun _ _ => rfl⟩
    · unfold fX4_arcsNoticed
      rw [if_neg h.nl]
      refine (b1_e (isInM K _ _ _)).trans ?_
      rw [w64, show decide ((11 : Int64).toInt ≤ w.toInt ∧ w.toInt ≤ (100 : Int64).toInt) = false from decide_eq_false hb]
      rfl
    · unfold fX0_arcsNoticed
      rw [b2_e (readyX K _), if_pos rfl]
      refine (b1_e (isInX K _ _ _)).trans ?_
      rw [show decide ((11 : Int32).toInt ≤ w.toInt ∧ w.toInt ≤ (100 : Int32).toInt) = false from decide_eq_false hb]
      rfl
end OPS
