/-! plain law: store, whole -/
set_option maxRecDepth 100000
section OPS
variable {K : Nat} {d : Nat → ClassId} {M : Nat → Int32} {F : Nat → Nat → Int32} {X : Nat → Int32} {XF : Nat → Nat → Int32} {G : Nat → Nat → Int64} {g gx : Nat → Int64} {P : Nat → Nat → Option Nat} {tl : va_W}
theorem st105_0 (h : FR d M F X XF G P tl) (hK : 4000 ≤ K) {n p : Nat} (hn : F 0 205 = oN n) (h15 : n ≤ 15) (hp : p ≤ n) : ∃ μ' : MS, fX4_store_L105 K (oN p) 0 (M, g, F) = some (oN p, μ') ∧ ∀ u, ∃ y : XT, b1u u (fun u => fX0_remember K d u ((X, gx, XF, G, P), tl)) (fun ζ u => insT K (oN p) ζ u) = some (oN p, y) ∧ FRt d μ' y := by
  obtain ⟨M1, F1, X1, P1, tl1, a1, a2, a3⟩ := remB h hK g gx
  have e0 : F1 0 = F 0 := (a3 (fun _ => 0)).2.2.1 0 (by decide)
  have hn1 : F1 0 205 = oN n := by rw [e0]; exact hn
  have hc1 := (a3 (fun _ => 0)).1.ld
  obtain ⟨S', s1, s2, s3, s4⟩ := upM (K := K) (M := M1) (g := g) n p h15 hp (n - p) K n F1 hn1 (by omega) (Nat.le_refl _) (by omega)
  have hc2 := hc1.mem0 s3
  obtain ⟨g1, p1⟩ := st153 (g := g) hc2 (show 40 ≤ K by omega) (p := p) (by omega)
  rw [mup_mup, mup_s, swV0, s3 0 (by omega), s3 1 (by omega)] at p1
  refine ⟨(M1, g1, mup F1 0 (ent3 S' p (F1 0 0) (F1 0 1) (swV M1 F1 (F1 0 1) (F1 0 0)))), ?_, fun u => ?_⟩
  · unfold fX4_store_L105
    refine (b1_e a1).trans ?_
    rw [if_pos rfl]
    refine (ga_t ⟨by decide, by decide⟩).trans ?_
    rw [nmr]
    show fX4_store_L122 K K (oN p) (F1 0 205) (M1, g, F1) = _
    rw [hn1]
    exact s1.trans p1
  · obtain ⟨y, y1, y2⟩ := ins_ok (gx := gx) (a3 (ue u)).1 (show 40 ≤ K by omega) hn1 h15 hp (uo u) s2 s3 s4
    exact ⟨y, (b1_e (a2 (ue u))).trans y1, y2⟩
theorem st105_1 (h : FR d M F X XF G P tl) (hK : 4000 ≤ K) {n p : Nat} (hn : F 0 205 = oN n) (h16 : n ≤ 16) (hp : p < n) : ∃ μ' : MS, fX4_store_L105 K (oN p) 1 (M, g, F) = some (oN p, μ') ∧ ∀ u, ∃ y : XT, b1u u (fun u => fX0_remember K d u ((X, gx, XF, G, P), tl)) (fun ζ u => setT K (oN p) ζ u) = some (oN p, y) ∧ FRt d μ' y := by
  obtain ⟨M1, F1, X1, P1, tl1, a1, a2, a3⟩ := remB h hK g gx
  have e0 : F1 0 = F 0 := (a3 (fun _ => 0)).2.2.1 0 (by decide)
  have hn1 : F1 0 205 = oN n := by rw [e0]; exact hn
  have hc1 := (a3 (fun _ => 0)).1.ld
  obtain ⟨g1, p1⟩ := st153 (g := g) hc1 (show 40 ≤ K by omega) (p := p) (by omega)
  refine ⟨(M1, g1, mup F1 0 (ent3 (F1 0) p (F1 0 0) (F1 0 1) (swV M1 F1 (F1 0 1) (F1 0 0)))), ?_, fun u => ?_⟩
  · unfold fX4_store_L105
    refine (b1_e a1).trans ?_
    rw [if_neg (by decide)]
    exact p1
  · obtain ⟨y, y1, y2⟩ := set_ok (gx := gx) (a3 (ue u)).1 (show 40 ≤ K by omega) hn1 h16 hp (uo u)
    exact ⟨y, (b1_e (a2 (ue u))).trans y1, y2⟩
theorem q_store (h : FR d M F X XF G P tl) (hnd : NDt tl) (hK : 4000 ≤ K) : OK d (fX4_store K (M, g, F)) (fun u => fX0_store K d u ((X, gx, XF, G, P), tl)) := by
  have nl := h.ld.nl
  obtain ⟨n, h1, h2, h3, h4, h5, -⟩ := h.mem
  obtain ⟨p, p1, p2, p3⟩ := plcE (F 0) (F 0 0) n
  have en : (oN n).toInt = n := oNi (by omega)
  have ep : (oN p).toInt = p := oNi (by omega)
  have m1 : fX4_store K (M, g, F) = fX4_store_L48 K (oN p) (M, g, F) := by
    unfold fX4_store
    rw [if_neg nl]
    exact plM h1 h2 p1 p2 p3 p K 0 (by omega) (by omega)
  have xp : fX0_placeOf K (X 60) ((X, gx, XF, G, P), tl) = some (oN p, ((X, gx, XF, G, P), tl)) := by
    unfold fX0_placeOf
    rw [h.ld.s.fq]
    exact plX (G := G) hnd h3 h2 p1 h4 p2 p3 p K 0 (by omega) (by omega)
  by_cases c1 : n ≤ p
  · have hpn : p = n := by omega
    have m2 : fX4_store_L48 K (oN p) (M, g, F) = fX4_store_L84 K 0 (oN p) (M, g, F) := by
      unfold fX4_store_L48
      refine (ga_t ⟨by decide, by decide⟩).trans ?_
      show (if F 0 205 ≤ oN p then _ else _) = _
      rw [h1, if_pos (by rw [le32, en, ep]; omega)]
      rfl
    have x1 : ∀ u, fX0_store K d u ((X, gx, XF, G, P), tl) = if oN n = (16 : Int32) then some (-2, ((X, gx, XF, G, P), tl)) else b1u u (fun u => fX0_remember K d u ((X, gx, XF, G, P), tl)) (fun ζ u => insT K (oN p) ζ u) := by
      intro u
      unfold fX0_store
      refine (b2_e (readyX K _)).trans ?_
      rw [nmr, if_pos rfl, xmrg_r]
      refine (b2_e xp).trans ?_
      refine (b1_e (v := oN n) (by show some (X 72) = _; rw [h3])).trans ?_
      rw [if_pos (by rw [le32, en, ep]; omega), if_pos rfl]
      refine (b1_e (v := oN n) (by show some (X 72) = _; rw [h3])).trans ?_
      rfl
    by_cases c16 : n = 16
    · refine OK.same (r := -2) h (g := g) (gx := gx) ?_ fun u => ?_
      · rw [m1, m2]
        unfold fX4_store_L84
        rw [if_pos rfl]
        refine (ga_t ⟨by decide, by decide⟩).trans ?_
        show (if F 0 205 = 16 then _ else _) = _
        rw [h1, c16, if_pos (by decide)]
      · rw [x1 u, c16, if_pos (by decide)]
    · obtain ⟨μ', q1, q2⟩ := st105_0 (g := g) (gx := gx) h hK h1 (by omega) p1
      have n16 : ¬ oN n = 16 := by rw [eq32, en, k32_16]; omega
      refine OK.ofU (r := oN p) (μ' := μ') ?_ (fun u => ?_)
      · rw [m1, m2]
        unfold fX4_store_L84
        rw [if_pos rfl]
        refine (ga_t ⟨by decide, by decide⟩).trans ?_
        show (if F 0 205 = 16 then _ else _) = _
        rw [h1, if_neg n16]
        exact q1
      · rw [x1 u, if_neg n16]
        exact q2 u
  · have hpn : p < n := by omega
    have o1 : 206 + p < 254 := by omega
    have o2 : 206 + p < 2147483648 := by omega
    obtain ⟨q, hq, he⟩ := h4 p hpn
    have npl : ¬ oN n ≤ oN p := by rw [le32, en, ep]; omega
    have w1 : (X 72).toInt ≤ 16 := by rw [h3, en]; omega
    have w2 : (p : Int) < (X 72).toInt := by rw [h3, en]; omega
    have gj := jget K (mc := X 70) (n := X 72) w1 w2 hq
    by_cases c2 : F 0 (206 + p) = F 0 0
    · have m2 : fX4_store_L48 K (oN p) (M, g, F) = fX4_store_L105 K (oN p) 1 (M, g, F) := by
        unfold fX4_store_L48
        refine (ga_t ⟨by decide, by decide⟩).trans ?_
        show (if F 0 205 ≤ oN p then _ else _) = _
        rw [h1, if_neg npl]
        have e5 : (206 + oN p : Int32).toInt = (206 + p : Nat) := addN k32_206 ep o2
        refine (ga_t (ixN e5 o1)).trans ?_
        refine (ga_t ⟨by decide, by decide⟩).trans ?_
        show (if F 0 (206 + oN p : Int32).toNatClampNeg = F 0 0 then _ else _) = _
        rw [nnN e5, if_pos c2]
        unfold fX4_store_L84
        rw [if_neg (by decide)]
      obtain ⟨μ', q1, q2⟩ := st105_1 (g := g) (gx := gx) h hK h1 h2 hpn
      refine OK.ofU (r := oN p) (μ' := μ') ?_ (fun u => ?_)
      · rw [m1, m2]; exact q1
      · obtain ⟨y, y1, y2⟩ := q2 u
        refine ⟨y, ?_, y2⟩
        unfold fX0_store
        refine (b2_e (readyX K _)).trans ?_
        rw [nmr, if_pos rfl, xmrg_r]
        refine (b2_e xp).trans ?_
        refine (b1_e (v := oN n) (by show some (X 72) = _; rw [h3])).trans ?_
        rw [if_neg npl]
        refine (b1_e gj).trans ?_
        refine (b1_e (entOf_of hnd he)).trans ?_
        have ef : F 0 (206 + p) = X 60 := by rw [c2]; exact h.ld.s.fq.symm
        rw [if_pos ef, if_neg (show ¬ (1 : Int32) = 0 by decide)]
        exact y1
    · have m2 : fX4_store_L48 K (oN p) (M, g, F) = fX4_store_L84 K 0 (oN p) (M, g, F) := by
        unfold fX4_store_L48
        refine (ga_t ⟨by decide, by decide⟩).trans ?_
        show (if F 0 205 ≤ oN p then _ else _) = _
        rw [h1, if_neg npl]
        have e5 : (206 + oN p : Int32).toInt = (206 + p : Nat) := addN k32_206 ep o2
        refine (ga_t (ixN e5 o1)).trans ?_
        refine (ga_t ⟨by decide, by decide⟩).trans ?_
        show (if F 0 (206 + oN p : Int32).toNatClampNeg = F 0 0 then _ else _) = _
        rw [nnN e5, if_neg c2]
        rfl
      have x1 : ∀ u, fX0_store K d u ((X, gx, XF, G, P), tl) = if oN n = (16 : Int32) then some (-2, ((X, gx, XF, G, P), tl)) else b1u u (fun u => fX0_remember K d u ((X, gx, XF, G, P), tl)) (fun ζ u => insT K (oN p) ζ u) := by
        intro u
        unfold fX0_store
        refine (b2_e (readyX K _)).trans ?_
        rw [nmr, if_pos rfl, xmrg_r]
        refine (b2_e xp).trans ?_
        refine (b1_e (v := oN n) (by show some (X 72) = _; rw [h3])).trans ?_
        rw [if_neg npl]
        refine (b1_e gj).trans ?_
        refine (b1_e (entOf_of hnd he)).trans ?_
        have ef : ¬ F 0 (206 + p) = X 60 := by rw [h.ld.s.fq]; exact c2
        rw [if_neg ef, if_pos rfl]
        refine (b1_e (v := oN n) (by show some (X 72) = _; rw [h3])).trans ?_
        rfl
      by_cases c16 : n = 16
      · refine OK.same (r := -2) h (g := g) (gx := gx) ?_ fun u => ?_
        · rw [m1, m2]
          unfold fX4_store_L84
          rw [if_pos rfl]
          refine (ga_t ⟨by decide, by decide⟩).trans ?_
          show (if F 0 205 = 16 then _ else _) = _
          rw [h1, c16, if_pos (by decide)]
        · rw [x1 u, c16, if_pos (by decide)]
      · obtain ⟨μ', q1, q2⟩ := st105_0 (g := g) (gx := gx) h hK h1 (by omega) p1
        have n16 : ¬ oN n = 16 := by rw [eq32, en, k32_16]; omega
        refine OK.ofU (r := oN p) (μ' := μ') ?_ (fun u => ?_)
        · rw [m1, m2]
          unfold fX4_store_L84
          rw [if_pos rfl]
          refine (ga_t ⟨by decide, by decide⟩).trans ?_
          show (if F 0 205 = 16 then _ else _) = _
          rw [h1, if_neg n16]
          exact q1
        · rw [x1 u, if_neg n16]
          exact q2 u
end OPS
