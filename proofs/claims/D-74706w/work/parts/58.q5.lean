/-! plain law: the text buffer -/
set_option maxRecDepth 100000
theorem byte255 (v : Int32) : vp_nar .byte (v.toInt8.toInt32) &&& 255 = v &&& 255 := by
  rw [vp_nar_byte]
  apply Int32.toBitVec_inj.mp
  rw [Int32.toBitVec_and, Int32.toBitVec_and]
  apply BitVec.eq_of_getLsbD_eq
  intro i hi
  rw [BitVec.getLsbD_and, BitVec.getLsbD_and]
  by_cases h8 : i < 8
  · congr 1
    simp [Int32.toBitVec_toInt8, Int8.toBitVec_toInt32, BitVec.getElem_signExtend, h8, hi]
  · have : (255 : Int32).toBitVec.getLsbD i = false := by
      have e : (255 : Int32).toBitVec = BitVec.ofNat 32 255 := rfl
      rw [e, BitVec.getLsbD_ofNat]
      have : Nat.testBit 255 i = false := by
        have : (255 : Nat) = 2 ^ 8 - 1 := rfl
        rw [this, Nat.testBit_two_pow_sub_one]
        simp; omega
      rw [this, Bool.and_false]
    rw [this, Bool.and_false, Bool.and_false]
theorem TB.put1 {M F X XF} (h : TB M F X XF) {n : Nat} (hn : M 18 = oN n) (hb : n < 500) (v : Int32) : TB (mup M 18 (oN (n + 1))) (mup F 17 (upd (F 17) n (v &&& 255))) (mup X 1 (oN (n + 1))) (mup XF 1 (upd (XF 1) n (vp_nar .byte (v.toInt8.toInt32)))) := by
  obtain ⟨h1, h2, h3, h4⟩ := h
  have en : (oN n).toInt = n := oNi (by omega)
  have en1 : (oN (n + 1)).toInt = (n + 1 : Nat) := oNi (by omega)
  refine ⟨by rw [mup_s, mup_s], by rw [mup_s, en1]; omega, fun k hk => ?_, by rw [mup_n _ _ (by decide), mup_n _ _ (by decide)]; exact h4⟩
  rw [mup_s, en1] at hk
  rw [mup_s, mup_s, upd_e, upd_e]
  by_cases c : k = n
  · rw [if_pos c, if_pos c]; exact byte255 v
  · rw [if_neg c, if_neg c]
    exact h3 k (by rw [hn, en]; omega)
section PUT
variable {K : Nat} {M : Nat → Int32} {F : Nat → Nat → Int32} {X : Nat → Int32} {XF : Nat → Nat → Int32} {G : Nat → Nat → Int64} {g gx : Nat → Int64} {P : Nat → Nat → Option Nat}
theorem put1M (m : Nat) (w s : Int32) (hs : ¬ s < 0) {n : Nat} (hn : M 18 = oN n) (hb : n < 500) : fX4_put_L3 K (m + 1) w s (M, g, F) = fX4_put_L3 K m w (s + -8) (mup M 18 (oN (n + 1)), g, mup F 17 (upd (F 17) n ((w >>> (s &&& 31)) &&& 255))) := by
  have en : (oN n).toInt = n := oNi (by omega)
  rw [fX4_put_L3, if_neg hs]
  show ga (ix (M 18) 500) (nm (sF (M, g, F) 17 (upd (F 17) (M 18).toNatClampNeg ((w >>> (s &&& 31)) &&& 255))) fun μ_3 => nm (sI μ_3 18 (μ_3.1 18 + 1)) fun μ_4 => fX4_put_L3 K m w (s + -8) μ_4) = _
  rw [hn]
  refine (ga_t ⟨by omega, by omega⟩).trans ?_
  rw [nmr, nmr, oNn (by omega), ← oN_s (by omega), ← hn]
  rfl
theorem put1X (m : Nat) (w s : Int32) (hs : ¬ s < 0) {n : Nat} (hn : X 1 = oN n) (hb : n < 500) : fX0_put_L3 K (m + 1) w s (X, gx, XF, G, P) = fX0_put_L3 K m w (s + -8) (mup X 1 (oN (n + 1)), gx, mup XF 1 (upd (XF 1) n (vp_nar .byte ((w >>> (s &&& 31)).toInt8.toInt32))), G, P) := by
  have en : (oN n).toInt = n := oNi (by omega)
  rw [fX0_put_L3, if_neg hs]
  show ga (ix (X 1) 500) (nm (xF (X, gx, XF, G, P) 1 (upd (XF 1) (X 1).toNatClampNeg (vp_nar .byte ((w >>> (s &&& 31)).toInt8.toInt32)))) fun ξ_3 => nm (xI ξ_3 1 (ξ_3.1 1 + 1)) fun ξ_4 => fX0_put_L3 K m w (s + -8) ξ_4) = _
  rw [hn]
  refine (ga_t ⟨by omega, by omega⟩).trans ?_
  rw [nmr, nmr, oNn (by omega), ← oN_s (by omega), ← hn]
  rfl
theorem putuX (K : Nat) : ∀ (m : Nat) (w s : Int32) (ξ : XS), fX0_putu_L3 K m w s ξ = fX0_put_L3 K m w s ξ := by
  intro m
  induction m with
  | zero => intro w s ξ; rfl
  | succ m ih =>
    intro w s ξ
    rw [fX0_putu_L3, fX0_put_L3]
    simp only [nm, ih]
theorem putB (h : TB M F X XF) {n : Nat} (hn : M 18 = oN n) (hb : n + 4 ≤ 500) (hK : 5 ≤ K) (w : Int32) : ∃ f1 f2, fX4_put K w (M, g, F) = some (mup M 18 (oN (n + 4)), g, mup F 17 f1) ∧ fX0_put K w (X, gx, XF, G, P) = some (mup X 1 (oN (n + 4)), gx, mup XF 1 f2, G, P) ∧ TB (mup M 18 (oN (n + 4))) (mup F 17 f1) (mup X 1 (oN (n + 4))) (mup XF 1 f2) := by
  obtain ⟨m, rfl⟩ : ∃ k, K = k + 5 := ⟨K - 5, by omega⟩
  have hx : X 1 = oN n := h.1.trans hn
  have t1 := h.put1 hn (by omega) (w >>> ((24 : Int32) &&& 31))
  have t2 := t1.put1 (n := n + 1) (mup_s _ _ _) (by omega) (w >>> ((24 + -8 : Int32) &&& 31))
  have t3 := t2.put1 (n := n + 2) (mup_s _ _ _) (by omega) (w >>> ((24 + -8 + -8 : Int32) &&& 31))
  have t4 := t3.put1 (n := n + 3) (mup_s _ _ _) (by omega) (w >>> ((24 + -8 + -8 + -8 : Int32) &&& 31))
  simp only [mup_mup] at t4
  refine ⟨_, _, ?_, ?_, t4⟩
  · unfold fX4_put
    rw [put1M (m + 4) w 24 (by decide) hn (by omega), put1M (m + 3) w (24 + -8) (by decide) (n := n + 1) (mup_s _ _ _) (by omega), put1M (m + 2) w (24 + -8 + -8) (by decide) (n := n + 2) (mup_s _ _ _) (by omega), put1M (m + 1) w (24 + -8 + -8 + -8) (by decide) (n := n + 3) (mup_s _ _ _) (by omega), fX4_put_L3, if_pos (by decide)]
    simp only [mup_mup]
  · unfold fX0_put
    rw [put1X (m + 4) w 24 (by decide) hx (by omega), put1X (m + 3) w (24 + -8) (by decide) (n := n + 1) (mup_s _ _ _) (by omega), put1X (m + 2) w (24 + -8 + -8) (by decide) (n := n + 2) (mup_s _ _ _) (by omega), put1X (m + 1) w (24 + -8 + -8 + -8) (by decide) (n := n + 3) (mup_s _ _ _) (by omega), fX0_put_L3, if_pos (by decide)]
    simp only [mup_mup]
/-- what text operations change -/
def TO {α : Type} (fa : Option (α × MS)) (fb : Option (α × XS)) (M : Nat → Int32) (F : Nat → Nat → Int32) (X : Nat → Int32) (XF : Nat → Nat → Int32) (G : Nat → Nat → Int64) (P : Nat → Nat → Option Nat) (g gx : Nat → Int64) : Prop := ∃ (r : α) (a : Int32) (f1 f2 : Nat → Int32), fa = some (r, (mup M 18 a, g, mup F 17 f1)) ∧ fb = some (r, (mup X 1 a, gx, mup XF 1 f2, G, P)) ∧ TB (mup M 18 a) (mup F 17 f1) (mup X 1 a) (mup XF 1 f2)
theorem TO.same {α : Type} {fa : Option (α × MS)} {fb : Option (α × XS)} (h : TB M F X XF) {r : α} (h1 : fa = some (r, (M, g, F))) (h2 : fb = some (r, (X, gx, XF, G, P))) : TO fa fb M F X XF G P g gx := by
  have e1 : mup M 18 (M 18) = M := mup_id _ _ _ rfl
  have e2 : mup F 17 (F 17) = F := mup_id _ _ _ rfl
  have e3 : mup X 1 (M 18) = X := mup_id _ _ _ h.1
  have e4 : mup XF 1 (XF 1) = XF := mup_id _ _ _ rfl
  exact ⟨r, M 18, F 17, XF 1, by rw [e1, e2]; exact h1, by rw [e3, e4]; exact h2, by rw [e1, e2, e3, e4]; exact h⟩
theorem k32_500 : (500 : Int32).toInt = 500 := rfl
theorem k32_20 : (20 : Int32).toInt = 20 := rfl
theorem p_append (h : TB M F X XF) (hK : 5 ≤ K) (a b c d e : Int32) : TO (fX4_append K a b c d e (M, g, F)) (fX0_append K a b c d e (X, gx, XF, G, P)) M F X XF G P g gx := by
  have hv := h.2.1
  obtain ⟨n, hn, hn2⟩ : ∃ n : Nat, M 18 = oN n ∧ (n : Int) = (M 18).toInt := ⟨(M 18).toNatClampNeg, oN_of (nn32 hv.1).symm, nn32 hv.1⟩
  have hx : X 1 = oN n := h.1.trans hn
  have en : (oN n).toInt = n := oNi (by omega)
  have es : (oN n + 20).toInt = n + 20 := by rw [a32, en, k32_20] <;> rw [en, k32_20] <;> omega
  by_cases hc : n + 20 ≤ 500
  · obtain ⟨a1, b1', c1, d1, t1⟩ := putB (G := G) (P := P) (g := g) (gx := gx) h hn (by omega) hK a
    obtain ⟨a2, b2', c2, d2, t2⟩ := putB (G := G) (P := P) (g := g) (gx := gx) t1 (n := n + 4) (mup_s _ _ _) (by omega) hK b
    obtain ⟨a3, b3', c3, d3, t3⟩ := putB (G := G) (P := P) (g := g) (gx := gx) t2 (n := n + 8) (mup_s _ _ _) (by omega) hK c
    obtain ⟨a4, b4', c4, d4, t4⟩ := putB (G := G) (P := P) (g := g) (gx := gx) t3 (n := n + 12) (mup_s _ _ _) (by omega) hK d
    obtain ⟨a5, b5', c5, d5, t5⟩ := putB (G := G) (P := P) (g := g) (gx := gx) t4 (n := n + 16) (mup_s _ _ _) (by omega) hK e
    simp only [mup_mup] at c2 d2 c3 d3 c4 d4 c5 d5 t5
    refine ⟨oN (n + 20), oN (n + 20), a5, b5', ?_, ?_, t5⟩
    · unfold fX4_append
      rw [if_pos (show M 18 + 20 ≤ 500 by rw [hn, le32, es, k32_500]; omega)]
      refine (b1_e c1).trans ?_
      refine (b1_e c2).trans ?_
      refine (b1_e c3).trans ?_
      refine (b1_e c4).trans ?_
      refine (b1_e c5).trans ?_
      show some (mup M 18 (oN (n + 16 + 4)) 18, _) = _
      rw [mup_s]
    · unfold fX0_append
      rw [if_pos (show X 1 + 20 ≤ 500 by rw [hx, le32, es, k32_500]; omega)]
      refine (b1_e d1).trans ?_
      refine (b1_e d2).trans ?_
      refine (b1_e d3).trans ?_
      refine (b1_e d4).trans ?_
      refine (b1_e d5).trans ?_
      show some (mup X 1 (oN (n + 16 + 4)) 1, _) = _
      rw [mup_s]
  · refine TO.same (r := -2) h ?_ ?_
    · unfold fX4_append
      rw [if_neg (show ¬ M 18 + 20 ≤ 500 by rw [hn, le32, es, k32_500]; omega)]
    · unfold fX0_append
      rw [if_neg (show ¬ X 1 + 20 ≤ 500 by rw [hx, le32, es, k32_500]; omega)]
theorem appu (K : Nat) (a b c d e : Int32) (ξ : XS) : fX0_appendu K a b c d e ξ = fX0_append K a b c d e ξ := by
  unfold fX0_appendu fX0_append fX0_putu fX0_put
  simp only [putuX]
theorem p_truncate (h : TB M F X XF) (v : Int32) : TO (fX4_truncate K v (M, g, F)) (fX0_truncate K v (X, gx, XF, G, P)) M F X XF G P g gx := by
  have hv := h.2.1
  have e1 : fX4_isIn K v.toInt64 0 ((M 18).toInt64) = some (decide (0 ≤ v.toInt ∧ v.toInt ≤ (M 18).toInt)) := by
    rw [isInM, w64, w64]; rfl
  have e2 : fX0_isIn K v 0 (X 1) = some (decide (0 ≤ v.toInt ∧ v.toInt ≤ (M 18).toInt)) := by
    rw [isInX, h.1]; rfl
  by_cases c : 0 ≤ v.toInt ∧ v.toInt ≤ (M 18).toInt
  · refine ⟨v, v, F 17, XF 1, ?_, ?_, ?_⟩
    · unfold fX4_truncate
      refine (b1_e e1).trans ?_
      rw [if_pos (decide_eq_true c), nmr, mup_id F _ _ rfl]
      show some (mup M 18 v 18, _) = _
      rw [mup_s]; rfl
    · unfold fX0_truncate
      refine (b1_e e2).trans ?_
      rw [if_pos (decide_eq_true c), nmr, mup_id XF _ _ rfl]
      show some (mup X 1 v 1, _) = _
      rw [mup_s]; rfl
    · rw [mup_id F _ _ rfl, mup_id XF _ _ rfl]
      obtain ⟨h1, h2, h3, h4⟩ := h
      refine ⟨by rw [mup_s, mup_s], by rw [mup_s]; omega, fun k hk => ?_, by rw [mup_n _ _ (by decide), mup_n _ _ (by decide)]; exact h4⟩
      rw [mup_s] at hk
      exact h3 k (by omega)
  · refine TO.same (r := -1) h ?_ ?_
    · unfold fX4_truncate
      refine (b1_e e1).trans ?_
      rw [if_neg (by rw [decide_eq_false c]; decide)]
    · unfold fX0_truncate
      refine (b1_e e2).trans ?_
      rw [if_neg (by rw [decide_eq_false c]; decide)]
theorem p_errorPosition (h : TB M F X XF) : TO (fX4_errorPosition K (M, g, F)) (fX0_errorPosition K (X, gx, XF, G, P)) M F X XF G P g gx := TO.same (r := M 25) h rfl (by unfold fX0_errorPosition; rw [show (X, gx, XF, G, P).1 2 = M 25 from h.2.2.2])
end PUT
theorem FR.tb {d M F X XF G P tl} (h : FR d M F X XF G P tl) {a : Int32} {f1 f2 : Nat → Int32} (ht : TB (mup M 18 a) (mup F 17 f1) (mup X 1 a) (mup XF 1 f2)) : FR d (mup M 18 a) (mup F 17 f1) (mup X 1 a) (mup XF 1 f2) G P tl := by
  obtain ⟨bl, rest, ch, n, hc, hm, h2, hh, hp, hf, h10, _⟩ := h
  refine ⟨bl, rest, ch, n, CR.mk (hc.t.cg (fun k _ _ => mup_n _ _ (by omega)) (fun k _ _ => mup_n _ _ (by omega)) (fun k _ _ => mup_n _ _ (by omega)) (fun k _ _ => mup_n _ _ (by omega))) ?_ ?_, ?_, ?_, ?_, hp, hf.cg (mup_n _ _ (by decide)) (mup_n _ _ (by decide)) (mup_n _ _ (by decide)) (fun c hc => hc), ?_, ht⟩
  · rw [mup_n _ _ (by decide)]
    exact hc.s.cx (fun k _ _ => mup_n _ _ (by omega)) (fun k _ _ => mup_n _ _ (by omega))
  · rw [mup_n _ _ (by decide)]; exact hc.ld
  · rw [mup_n _ _ (by decide), mup_n _ _ (by decide)]; exact hm
  · rw [mup_n _ _ (by decide)]; exact h2
  · rw [mup_n _ _ (by decide), mup_n _ _ (by decide), mup_n _ _ (by decide)]; exact hh
  · rw [mup_n _ _ (by decide), mup_n _ _ (by decide)]; exact h10
