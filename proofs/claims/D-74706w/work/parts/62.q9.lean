/-! plain law: transmit -/
set_option maxRecDepth 100000
def val4 (x : Int32) : Int32 := if ((4 : Int32) * x) < (99999 : Int32) then ((4 : Int32) * x) else (99999 : Int32)
theorem k32_99999 : (99999 : Int32).toInt = 99999 := rfl
theorem k64_99999 : (99999 : Int64).toInt = 99999 := rfl
theorem k64_4 : (4 : Int64).toInt = 4 := rfl
theorem v4_e {x : Int32} (h : 0 ≤ x.toInt ∧ x.toInt ≤ 99999) : (cl ((4 : Int64) * x.toInt64) 0 99999).toInt32 = val4 x := by
  have e1 : ((4 : Int32) * x).toInt = 4 * x.toInt := by rw [m32, k32_4] <;> (try rw [k32_4]) <;> omega
  have e2 : ((4 : Int64) * x.toInt64).toInt = 4 * x.toInt := by rw [m64, k64_4, w64] <;> (try rw [k64_4, w64]) <;> omega
  have e3 : (0 : Int64) ≤ (4 : Int64) * x.toInt64 := by rw [le64, e2, z64]; omega
  unfold cl val4
  rw [if_pos e3]
  by_cases c : 4 * x.toInt ≤ 99999
  · rw [if_pos (by rw [le64, e2, k64_99999]; exact c)]
    by_cases c2 : 4 * x.toInt < 99999
    · rw [if_pos (by rw [lt32, e1, k32_99999]; exact c2), eq32, e1, Int64.toInt_toInt32, e2]
      exact Int.bmod_eq_of_le (by omega) (by omega)
    · rw [if_neg (by rw [lt32, e1, k32_99999]; exact c2), eq32, Int64.toInt_toInt32, e2, k32_99999]
      rw [Int.bmod_eq_of_le] <;> omega
  · rw [if_neg (by rw [le64, e2, k64_99999]; exact c), if_neg (by rw [lt32, e1, k32_99999]; omega)]
    rfl
theorem val4_b {x : Int32} (h : 0 ≤ x.toInt ∧ x.toInt ≤ 99999) : 0 ≤ (val4 x).toInt ∧ (val4 x).toInt ≤ 99999 := by
  have e1 : ((4 : Int32) * x).toInt = 4 * x.toInt := by rw [m32, k32_4] <;> (try rw [k32_4]) <;> omega
  unfold val4
  by_cases c : 4 * x.toInt < 99999
  · rw [if_pos (by rw [lt32, e1, k32_99999]; exact c), e1]; omega
  · rw [if_neg (by rw [lt32, e1, k32_99999]; exact c), k32_99999]; omega
theorem KX.heat {X X' XF XF' n v} (h : KX X X' XF XF' n v) (w : Int32) : KX (mup X 62 w) (mup X' 62 w) XF XF' n v := by
  obtain ⟨h1, h2, h3, h4, h5, h6, h7, h8⟩ := h
  refine ⟨by rw [mup_n _ _ (by decide)]; exact h1, by rw [mup_n _ _ (by decide)]; exact h2, fun k a b => ?_, h4, h5, by rw [mup_n _ _ (by decide)]; exact h6, h7, h8⟩
  rw [mup_e, mup_e]
  split
  · rfl
  · exact h3 k a b
theorem SR.heat {S X XF} (h : SR S X XF) {w : Int32} (hw : 0 ≤ w.toInt ∧ w.toInt ≤ 2) : SR (upd S 2 w) (mup X 62 w) XF := by
  have u : ∀ k, k ≠ 2 → upd S 2 w k = S k := fun k hk => by rw [upd_e, if_neg hk]
  have o4 := u 4 (by decide)
  refine SR.mk ?_ ?_ ?_ ?_ ?_ ?_ ?_ ?_ ?_ ?_ ?_ ?_ ?_ h.v_fs
  · rw [u 0 (by decide), mup_n _ _ (by decide)]; exact h.fq
  · rw [u 1 (by decide), mup_n _ _ (by decide)]; exact h.st
  · rw [upd_e, if_pos rfl, mup_s]
  · rw [u 3 (by decide), mup_n _ _ (by decide)]; exact h.ch
  · rw [o4, mup_n _ _ (by decide)]; exact h.rc
  · intro k hk; rw [o4] at hk; rw [u _ (by omega)]; exact h.rd k hk
  · intro k hk; rw [o4] at hk; rw [u _ (by omega)]; exact h.fs k hk
  · rw [u 0 (by decide)]; exact h.v_fq
  · rw [u 1 (by decide)]; exact h.v_st
  · rw [upd_e, if_pos rfl]; exact hw
  · rw [u 3 (by decide)]; exact h.v_ch
  · rw [o4]; exact h.v_rc
  · intro k hk; rw [o4] at hk; rw [u _ (by omega)]; exact h.v_rd k hk
section BODY
variable {K : Nat} {M : Nat → Int32} {g gx : Nat → Int64} {G : Nat → Nat → Int64} {P : Nat → Nat → Option Nat} {d : Nat → ClassId} {tl : va_W}
def arcv (tm s2 : Int32) : Int32 := if tm = 0 then 0 else s2 + 1
theorem bodyM0 (hK : 102 ≤ K) (F : Nat → Nat → Int32) (m : Nat) (cnt its tm arcs i : Int32) (hi : ¬ cnt ≤ i) (hv : Int32) (hhv : arcv tm (F 0 2) = hv) (n : Nat) (hn : n ≤ 100) (h4 : F 0 4 = oN n) (h3 : hv ≠ 3) : ∃ S', fX4_transmit_L47 K (m + 1) cnt its tm arcs i (M, g, F) = fX4_transmit_L47 K m cnt its tm arcs (i + 1) (M, g, mup F 0 (upd S' 3 0)) ∧ KS (upd (F 0) 2 hv) S' n its (upd (F 0) 2 hv 3) := by
  obtain ⟨S', k1, k2⟩ := keepM (K := K) (M := M) (g := g) hK (mup F 0 (upd (F 0) 2 hv)) its (upd (F 0) 2 hv 3) n hn (by rw [mup_s, upd_e, if_neg (by decide)]; exact h4)
  rw [mup_mup] at k1
  rw [mup_s] at k2
  refine ⟨S', ?_, k2⟩
  have t74 : fX4_transmit_L74 K (fX4_transmit_L47 K m) hv 2 cnt its tm arcs i (M, g, F) = fX4_transmit_L47 K m cnt its tm arcs (i + 1) (M, g, mup F 0 (upd S' 3 0)) := by
    unfold fX4_transmit_L74
    refine (ga_t ⟨by decide, by decide⟩).trans ?_
    rw [nmr]
    refine (ga_t ⟨by decide, by decide⟩).trans ?_
    show (if mup F 0 (upd (F 0) 2 hv) 0 2 = 3 then _ else fX4_transmit_L90 K (fX4_transmit_L47 K m) 0 cnt its tm arcs i (M, g, mup F 0 (upd (F 0) 2 hv))) = _
    rw [mup_s, if_neg (by rw [upd_e, if_pos rfl]; exact h3)]
    unfold fX4_transmit_L90
    rw [if_pos rfl]
    unfold fX4_transmit_L107
    rw [if_pos rfl]
    unfold fX4_transmit_L131
    refine (ga_t ⟨by decide, by decide⟩).trans ?_
    refine (b1_e (v := (M, g, mup F 0 S')) (by show fX4_keepReading K its (mup F 0 (upd (F 0) 2 hv) 0 3) (M, g, mup F 0 (upd (F 0) 2 hv)) = _; rw [mup_s]; exact k1)).trans ?_
    refine (ga_t ⟨by decide, by decide⟩).trans ?_
    rw [nmr]
    show fX4_transmit_L47 K m cnt its tm arcs (i + 1) (M, g, mup (mup F 0 S') 0 (upd (mup F 0 S' 0) 3 0)) = _
    rw [mup_mup, mup_s]
  rw [fX4_transmit_L47, if_neg hi]
  unfold arcv at hhv
  by_cases c : tm = 0
  · rw [if_pos c] at hhv ⊢
    subst hhv
    exact t74
  · rw [if_neg c] at hhv ⊢
    refine (ga_t ⟨by decide, by decide⟩).trans ?_
    subst hhv
    exact t74
theorem bodyM3 (hK : 102 ≤ K) (F : Nat → Nat → Int32) (m : Nat) (cnt its tm arcs i : Int32) (hi : ¬ cnt ≤ i) (hb : 0 ≤ its.toInt ∧ its.toInt ≤ 99999) (hhv : arcv tm (F 0 2) = 3) (n : Nat) (hn : n ≤ 100) (h4 : F 0 4 = oN n) : ∃ S', fX4_transmit_L47 K (m + 1) cnt its tm arcs i (M, g, F) = fX4_transmit_L47 K m cnt its tm (arcs + 1) (i + 1) (M, g, mup F 0 (upd S' 3 0)) ∧ KS (upd (F 0) 2 0) S' n (val4 its) (upd (F 0) 2 0 3) := by
  have u0 : upd (upd (F 0) 2 3) 2 0 = upd (F 0) 2 0 := by
    funext k
    rw [upd_e, upd_e, upd_e]
    split <;> rfl
  obtain ⟨S', k1, k2⟩ := keepM (K := K) (M := M) (g := g) hK (mup F 0 (upd (F 0) 2 0)) (val4 its) (upd (F 0) 2 0 3) n hn (by rw [mup_s, upd_e, if_neg (by decide)]; exact h4)
  rw [mup_mup] at k1
  rw [mup_s] at k2
  refine ⟨S', ?_, k2⟩
  have t74 : fX4_transmit_L74 K (fX4_transmit_L47 K m) 3 2 cnt its tm arcs i (M, g, F) = fX4_transmit_L47 K m cnt its tm (arcs + 1) (i + 1) (M, g, mup F 0 (upd S' 3 0)) := by
    unfold fX4_transmit_L74
    refine (ga_t ⟨by decide, by decide⟩).trans ?_
    rw [nmr]
    refine (ga_t ⟨by decide, by decide⟩).trans ?_
    show (if mup F 0 (upd (F 0) 2 3) 0 2 = 3 then fX4_transmit_L90 K (fX4_transmit_L47 K m) 1 cnt its tm arcs i (M, g, mup F 0 (upd (F 0) 2 3)) else _) = _
    rw [mup_s, if_pos (by rw [upd_e, if_pos rfl])]
    unfold fX4_transmit_L90
    rw [if_neg (by decide)]
    refine (ga_t ⟨by decide, by decide⟩).trans ?_
    rw [nmr]
    show fX4_transmit_L107 K (fX4_transmit_L47 K m) cnt its tm (arcs + 1) i 1 (M, g, mup (mup F 0 (upd (F 0) 2 3)) 0 (upd (mup F 0 (upd (F 0) 2 3) 0) 2 0)) = _
    rw [mup_mup, mup_s, u0]
    unfold fX4_transmit_L107
    rw [if_neg (by decide)]
    refine (b1_e (clM K _ _ _)).trans ?_
    rw [v4_e hb]
    unfold fX4_transmit_L131
    refine (ga_t ⟨by decide, by decide⟩).trans ?_
    refine (b1_e (v := (M, g, mup F 0 S')) (by show fX4_keepReading K (val4 its) (mup F 0 (upd (F 0) 2 0) 0 3) (M, g, mup F 0 (upd (F 0) 2 0)) = _; rw [mup_s]; exact k1)).trans ?_
    refine (ga_t ⟨by decide, by decide⟩).trans ?_
    rw [nmr]
    show fX4_transmit_L47 K m cnt its tm (arcs + 1) (i + 1) (M, g, mup (mup F 0 S') 0 (upd (mup F 0 S' 0) 3 0)) = _
    rw [mup_mup, mup_s]
  rw [fX4_transmit_L47, if_neg hi]
  unfold arcv at hhv
  by_cases c : tm = 0
  · rw [if_pos c] at hhv ⊢
    exact absurd hhv (by decide)
  · rw [if_neg c] at hhv ⊢
    refine (ga_t ⟨by decide, by decide⟩).trans ?_
    show fX4_transmit_L74 K (fX4_transmit_L47 K m) (F 0 2 + 1) 2 cnt its tm arcs i (M, g, F) = _
    rw [hhv]
    exact t74
theorem bodyX (X : Nat → Int32) (XF : Nat → Nat → Int32) (m : Nat) (cnt its tm arcs i : Int32) (hi : ¬ cnt ≤ i) (hv : Int32) (hhv : arcv tm (X 62) = hv) (n : Nat) (hn : n ≤ 100) (h6 : X 66 = oN n) (h63 : X 63 = 0 ∨ X 63 = 1) (hB : ∀ k, k < 100 → XF 65 k = 0 ∨ XF 65 k = 1) : ∃ X' XF', fX0_transmit_L45 K d (m + 1) cnt its tm arcs i ((X, gx, XF, G, P), tl) = fX0_transmit_L45 K d m cnt its tm (if hv = 3 then arcs + 1 else arcs) (i + 1) ((X', gx, XF', G, P), tl) ∧ KX (mup X 62 (if hv = 3 then 0 else hv)) X' XF XF' n (if hv = 3 then val4 its else its) := by
  obtain ⟨X2, XF2, k1, k2⟩ := recX (X := mup X 62 hv) (XF := XF) (G := G) (gx := gx) (P := P) K (if hv = 3 then val4 its else its) n hn (by rw [mup_n _ _ (by decide)]; exact h6) (by rw [mup_n _ _ (by decide)]; exact h63) hB
  have e62 : X2 62 = hv := by rw [k2.2.2.1 62 (by decide) (by decide), mup_s]
  have k3 := k2.heat (if hv = 3 then 0 else hv)
  rw [mup_mup] at k3
  have hx : xmrg (mup X 62 hv, gx, XF, G, P) (X2, gx, XF2, G, P) = (X2, gx, XF2, G, P) := xmrg_e (fun k hk => k2.2.2.1 k (by omega) (by omega))
  refine ⟨mup X2 62 (if hv = 3 then 0 else hv), XF2, ?_, k3⟩
  have t72 : fX0_transmit_L72 K d (fX0_transmit_L45 K d m) hv cnt its tm arcs i ((X, gx, XF, G, P), tl) = fX0_transmit_L45 K d m cnt its tm (if hv = 3 then arcs + 1 else arcs) (i + 1) ((mup X2 62 (if hv = 3 then 0 else hv), gx, XF2, G, P), tl) := by
    unfold fX0_transmit_L72
    rw [nmr]
    show (if mup X 62 hv 62 = 3 then fX0_transmit_L91 K d (fX0_transmit_L45 K d m) 1 cnt its tm arcs i ((mup X 62 hv, gx, XF, G, P), tl) else fX0_transmit_L91 K d (fX0_transmit_L45 K d m) 0 cnt its tm arcs i ((mup X 62 hv, gx, XF, G, P), tl)) = _
    rw [mup_s]
    by_cases c : hv = 3
    · rw [if_pos c] at k1
      rw [if_pos c, if_pos c, if_pos c]
      unfold fX0_transmit_L91
      rw [if_neg (by decide), nmr]
      unfold fX0_transmit_L115
      refine (b1_e k1).trans ?_
      rw [nmr]
      show (if (1 : Int32) = 0 then _ else fX0_transmit_L138 K d (fX0_transmit_L45 K d m) 0 cnt its tm arcs i 1 (xmrg (mup X 62 hv, gx, XF, G, P) (X2, gx, XF2, G, P), tl)) = _
      rw [if_neg (by decide), hx]
      unfold fX0_transmit_L138
      rw [nmr, if_neg (by decide)]
      unfold fX0_transmit_L153
      rw [nmr]
      rfl
    · rw [if_neg c] at k1
      rw [if_neg c, if_neg c, if_neg c]
      unfold fX0_transmit_L91
      rw [if_pos rfl]
      unfold fX0_transmit_L115
      refine (b1_e k1).trans ?_
      rw [nmr]
      show (if (0 : Int32) = 0 then fX0_transmit_L138 K d (fX0_transmit_L45 K d m) ((xmrg (mup X 62 hv, gx, XF, G, P) (X2, gx, XF2, G, P)).1 62) cnt its tm arcs i 0 (xmrg (mup X 62 hv, gx, XF, G, P) (X2, gx, XF2, G, P), tl) else _) = _
      rw [if_pos rfl, hx]
      unfold fX0_transmit_L138
      rw [nmr, if_pos rfl]
      unfold fX0_transmit_L153
      rw [nmr, Int32.add_zero]
      show fX0_transmit_L45 K d m cnt its tm arcs (i + 1) ((mup X2 62 (X2 62), gx, XF2, G, P), tl) = _
      rw [e62]
  rw [fX0_transmit_L45, if_neg hi]
  unfold arcv at hhv
  by_cases c : tm = 0
  · rw [if_pos c] at hhv
    rw [if_pos c]
    subst hhv
    exact t72
  · rw [if_neg c] at hhv
    rw [if_neg c]
    show fX0_transmit_L72 K d (fX0_transmit_L45 K d m) (X 62 + 1) cnt its tm arcs i ((X, gx, XF, G, P), tl) = _
    rw [hhv]
    exact t72
theorem trans_L (hK : 102 ≤ K) (cnt its tm : Int32) (hb : 0 ≤ its.toInt ∧ its.toInt ≤ 99999) (k : Nat) : ∀ (m : Nat) (arcs i : Int32) (F : Nat → Nat → Int32) (X : Nat → Int32) (XF : Nat → Nat → Int32), SR (F 0) X XF → cnt.toInt - i.toInt ≤ k → cnt.toInt ≤ 100 → -1 ≤ i.toInt → k + 1 ≤ m → ∃ r S' X' XF', fX4_transmit_L47 K m cnt its tm arcs i (M, g, F) = some (r, (M, g, mup F 0 S')) ∧ fX0_transmit_L45 K d m cnt its tm arcs i ((X, gx, XF, G, P), tl) = some (r, ((X', gx, XF', G, P), tl)) ∧ SR S' X' XF' ∧ (∀ k, 205 ≤ k → S' k = F 0 k) ∧ (∀ k, k < 60 ∨ 67 ≤ k → X' k = X k) ∧ ∀ k, k ≠ 64 → k ≠ 65 → XF' k = XF k := by
  induction k with
  | zero =>
    intro m arcs i F X XF h hk _ _ hm
    obtain ⟨m, rfl⟩ : ∃ k, m = k + 1 := ⟨m - 1, by omega⟩
    have hi : cnt ≤ i := by rw [le32]; omega
    refine ⟨arcs, F 0, X, XF, ?_, ?_, h, fun _ _ => rfl, fun _ _ => rfl, fun _ _ _ => rfl⟩
    · rw [fX4_transmit_L47, if_pos hi, mup_id _ _ _ rfl]
    · rw [fX0_transmit_L45, if_pos hi]
  | succ k ih =>
    intro m arcs i F X XF h hk h100 hi0 hm
    obtain ⟨m, rfl⟩ : ∃ k, m = k + 1 := ⟨m - 1, by omega⟩
    by_cases hi : cnt ≤ i
    · refine ⟨arcs, F 0, X, XF, ?_, ?_, h, fun _ _ => rfl, fun _ _ => rfl, fun _ _ _ => rfl⟩
      · rw [fX4_transmit_L47, if_pos hi, mup_id _ _ _ rfl]
      · rw [fX0_transmit_L45, if_pos hi]
    · have hrc := h.v_rc
      obtain ⟨n, h4, hn⟩ : ∃ n : Nat, F 0 4 = oN n ∧ n ≤ 100 := ⟨(F 0 4).toNatClampNeg, oN_of (nn32 hrc.1).symm, by have := nn32 hrc.1; omega⟩
      have h6 : X 66 = oN n := by rw [h.rc]; exact h4
      have h63 : X 63 = 0 ∨ X 63 = 1 := by rw [h.ch]; exact h.v_ch
      have hlt : i.toInt < cnt.toInt := by rw [le32] at hi; omega
      have hi1 : (i + 1).toInt = i.toInt + 1 := by rw [a32, k32_1] <;> (try rw [k32_1]) <;> omega
      have b1' : cnt.toInt - (i + 1).toInt ≤ k := by rw [hi1]; omega
      have b2' : -1 ≤ (i + 1).toInt := by rw [hi1]; omega
      clear hi1
      have hht := h.v_ht
      have hhv : ∃ hv, arcv tm (F 0 2) = hv ∧ (hv = 3 ∨ (0 ≤ hv.toInt ∧ hv.toInt ≤ 2)) := by
        refine ⟨_, rfl, ?_⟩
        unfold arcv
        by_cases c : tm = 0
        · rw [if_pos c]; right; decide
        · rw [if_neg c]
          have e : (F 0 2 + 1).toInt = (F 0 2).toInt + 1 := by rw [a32, k32_1] <;> (try rw [k32_1]) <;> omega
          by_cases c2 : (F 0 2).toInt = 2
          · left; rw [eq32, e, c2]; rfl
          · right; rw [e]; omega
      obtain ⟨hv, e1, e2⟩ := hhv
      obtain ⟨X2, XF2, x1, x2⟩ := bodyX (K := K) (gx := gx) (G := G) (P := P) (d := d) (tl := tl) X XF m cnt its tm arcs i hi hv (by rw [h.ht]; exact e1) n hn h6 h63 h.v_fs
      by_cases c3 : hv = 3
      · rw [if_pos c3] at x1
        rw [if_pos c3, if_pos c3] at x2
        obtain ⟨S2, m1, m2⟩ := bodyM3 (K := K) (M := M) (g := g) hK F m cnt its tm arcs i hi hb (by rw [e1]; exact c3) n hn h4
        have hs := (h.heat (w := 0) (by decide)).keep hn (by rw [upd_e, if_neg (by decide)]; exact h4) (val4_b hb) m2 x2
        obtain ⟨r, S', X', XF', a1, a2, a3, a4, a5, a6⟩ := ih m (arcs + 1) (i + 1) (mup F 0 (upd S2 3 0)) X2 XF2 (by rw [mup_s]; exact hs) b1' h100 b2' (by omega)
        rw [mup_mup] at a1
        refine ⟨r, S', X', XF', m1.trans a1, x1.trans a2, a3, fun k hk => ?_, fun k hk => ?_, fun k p q => ?_⟩
        · rw [a4 k hk, mup_s, upd_e, if_neg (by omega), m2.2.2.2.2 k (Or.inr hk), upd_e, if_neg (by omega)]
        · rw [a5 k hk, x2.2.2.1 k (by omega) (by omega), mup_n _ _ (by omega)]
        · rw [a6 k p q, x2.2.2.2.2.2.2.2 k p q]
      · rw [if_neg c3] at x1
        rw [if_neg c3, if_neg c3] at x2
        have e3 : 0 ≤ hv.toInt ∧ hv.toInt ≤ 2 := by
          rcases e2 with e2 | e2
          · exact absurd e2 c3
          · exact e2
        obtain ⟨S2, m1, m2⟩ := bodyM0 (K := K) (M := M) (g := g) hK F m cnt its tm arcs i hi hv e1 n hn h4 c3
        have hs := (h.heat e3).keep hn (by rw [upd_e, if_neg (by decide)]; exact h4) hb m2 x2
        obtain ⟨r, S', X', XF', a1, a2, a3, a4, a5, a6⟩ := ih m arcs (i + 1) (mup F 0 (upd S2 3 0)) X2 XF2 (by rw [mup_s]; exact hs) b1' h100 b2' (by omega)
        rw [mup_mup] at a1
        refine ⟨r, S', X', XF', m1.trans a1, x1.trans a2, a3, fun k hk => ?_, fun k hk => ?_, fun k p q => ?_⟩
        · rw [a4 k hk, mup_s, upd_e, if_neg (by omega), m2.2.2.2.2 k (Or.inr hk), upd_e, if_neg (by omega)]
        · rw [a5 k hk, x2.2.2.1 k (by omega) (by omega), mup_n _ _ (by omega)]
        · rw [a6 k p q, x2.2.2.2.2.2.2.2 k p q]
end BODY
