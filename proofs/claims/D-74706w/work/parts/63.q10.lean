/-! plain law: transmit, whole -/
set_option maxRecDepth 100000
section OPS
variable {K : Nat} {d : Nat → ClassId} {M : Nat → Int32} {F : Nat → Nat → Int32} {X : Nat → Int32} {XF : Nat → Nat → Int32} {G : Nat → Nat → Int64} {g gx : Nat → Int64} {P : Nat → Nat → Option Nat} {tl : va_W}
abbrev ovV (M : Nat → Int32) (F : Nat → Nat → Int32) (s f : Int32) : Bool := decide (¬ voV M F s f (M 7) ≤ M 8)
theorem ovM (h : CR M F X XF G) (hK : 40 ≤ K) {s : Int32} (hs : 0 ≤ s.toInt ∧ s.toInt ≤ 8191) : ∃ g1, fX4_isOverloaded K s (M, g, F) = some (ovV M F s (F 0 0), (M, g1, F)) := by
  obtain ⟨g1, a1⟩ := volM (g := g) h.t hK (M 7) hs h.s.v_fq
  refine ⟨g1, ?_⟩
  unfold fX4_isOverloaded
  refine (b2_e a1).trans ?_
  show (if voV M F s (F 0 0) (M 7) ≤ M 8 then _ else _) = _
  by_cases c : voV M F s (F 0 0) (M 7) ≤ M 8
  · rw [if_pos c, show ovV M F s (F 0 0) = false from decide_eq_false (fun h => h c)]
  · rw [if_neg c, show ovV M F s (F 0 0) = true from decide_eq_true c]
theorem voltX (h : CR M F X XF G) (hK : 40 ≤ K) {s f : Int32} (hs : 0 ≤ s.toInt ∧ s.toInt ≤ 8191) (hf : 1500 ≤ f.toInt ∧ f.toInt ≤ 30000) {X2 : Nat → Int32} {g2 : Nat → Int64} (hx : ∀ k, k ≠ 20 → X2 k = X k) (ha : At M F s f X2 g2) : fX3_voltage K (X2, g2, XF, G, P) = some (voV M F s f (M 7), (X2, g2, XF, G, P)) := by
  have hp := h.t.v_pow
  have c := vol' (P := P) (G := G) (XF := XF) h hK (w := M 7) ha hs hf (by omega)
  unfold fX3_voltage
  have e : X2 43 = M 7 := by rw [hx _ (by decide)]; exact h.t.pow
  simp only [e]
  exact (b2_e c).trans rfl
theorem ovX (h : CR M F X XF G) (hK : 40 ≤ K) {s f : Int32} (hs : 0 ≤ s.toInt ∧ s.toInt ≤ 8191) (hf : 1500 ≤ f.toInt ∧ f.toInt ≤ 30000) {X2 : Nat → Int32} {g2 : Nat → Int64} (hx : ∀ k, k ≠ 20 → X2 k = X k) (ha : At M F s f X2 g2) : fX3_isOverloaded K (X2, g2, XF, G, P) = some (ovV M F s f, (X2, g2, XF, G, P)) := by
  unfold fX3_isOverloaded
  refine (b2_e (voltX h hK hs hf hx ha)).trans ?_
  have e : X2 44 = M 8 := by rw [hx _ (by decide)]; exact h.t.rat
  show (if voV M F s f (M 7) ≤ X2 44 then _ else _) = _
  rw [e]
  by_cases c : voV M F s f (M 7) ≤ M 8
  · rw [if_pos c, show ovV M F s f = false from decide_eq_false (fun h => h c)]
  · rw [if_neg c, show ovV M F s f = true from decide_eq_true c]
theorem in150M (K : Nat) (v : Int32) : fX4_isIn K v.toInt64 1 50 = some (decide (1 ≤ v.toInt ∧ v.toInt ≤ 50)) := by
  rw [isInM, w64]; rfl
theorem in150X (K : Nat) (v : Int32) : fX0_isIn K v 1 50 = some (decide (1 ≤ v.toInt ∧ v.toInt ≤ 50)) := isInX K v 1 50
theorem q_transmit (h : FR d M F X XF G P tl) (hK : 4000 ≤ K) (v : Int32) : OK d (fX4_transmit K v (M, g, F)) (fun u => fX0_transmit K d v u ((X, gx, XF, G, P), tl)) := by
  have nl := h.ld.nl
  by_cases c : 1 ≤ v.toInt ∧ v.toInt ≤ 50
  · obtain ⟨M1, F1, X1, P1, tl1, a1, a2, a3⟩ := remB h hK g gx
    have hu := a3 (fun _ => 0)
    obtain ⟨r1, r2, r3, r4, r5⟩ := hu
    obtain ⟨g1, p1⟩ := presM (g := g) r1.ld (show 40 ≤ K by omega)
    obtain ⟨g2, p2⟩ := ovM (g := g1) r1.ld (show 40 ≤ K by omega) r1.ld.s.v_st
    have hsw := sw_b M1 F1 (F1 0 1) (F1 0 0)
    have loop : ∀ u, ∃ r S' X' XF' gx', fX4_transmit_L47 K K v (swV M1 F1 (F1 0 1) (F1 0 0)) (bi (ovV M1 F1 (F1 0 1) (F1 0 0))) 0 0 (M1, g2, F1) = some (r, (M1, g2, mup F1 0 S')) ∧ fX0_transmit K d v u ((X, gx, XF, G, P), tl) = some (r, ((X', gx', XF', G, P1 (ue u)), tl1 (ue u))) ∧ FR d M1 (mup F1 0 S') X' XF' G (P1 (ue u)) (tl1 (ue u)) := by
      intro u
      have ru := (a3 (ue u)).1
      obtain ⟨X2, gx2, b1, b2, b3⟩ := here' (gx := gx) (P := P1 (ue u)) ru.ld (show 40 ≤ K by omega)
      have ru2 := ru.scr b2
      obtain ⟨r, S', X', XF', l1, l2, l3, l4, l5, l6⟩ := trans_L (K := K) (M := M1) (g := g2) (gx := gx2) (G := G) (P := P1 (ue u)) (d := d) (tl := tl1 (ue u)) (by omega) v (swV M1 F1 (F1 0 1) (F1 0 0)) (bi (ovV M1 F1 (F1 0 1) (F1 0 0))) (by omega) 60 K 0 0 F1 X2 XF ru2.ld.s (by rw [k32_0]; omega) (by omega) (by decide) (by omega)
      refine ⟨r, S', X', XF', gx2, l1, ?_, ru2.st l3 (fun k p q => l4 k p) (fun k p q => l5 k (by omega)) l6⟩
      unfold fX0_transmit
      refine (b2_e (readyX K _)).trans ?_
      rw [nmr, if_pos rfl]
      refine (b1_e (in150X K v)).trans ?_
      rw [if_pos (decide_eq_true c), xmrg_r]
      unfold b1u
      refine (b1_e (a2 (ue u))).trans ?_
      refine (b1_e b1).trans ?_
      have x2 : xmrg (X1, gx, XF, G, P1 (ue u)) (X2, gx2, XF, G, P1 (ue u)) = (X2, gx2, XF, G, P1 (ue u)) := xmrg_e (fun k hk => b2 k (by omega))
      rw [nmr, x2]
      refine (b2_e (swr' (by omega) b3)).trans ?_
      rw [nmr, xmrg_r]
      refine (b2_e (ovX ru.ld (by omega) ru.ld.s.v_st ru.ld.s.v_fq b2 b3)).trans ?_
      rw [nmr, xmrg_r]
      exact l2
    obtain ⟨r, S0, X0', XF0', gx0, m1, -, -⟩ := loop (fun _ => 0)
    have ch : ∀ u, ∃ y : XT, fX0_transmit K d v u ((X, gx, XF, G, P), tl) = some (r, y) ∧ FRt d (M1, g2, mup F1 0 S0) y := by
      intro u
      obtain ⟨r', S', X', XF', gx', m1', x1', f1'⟩ := loop u
      have e := Option.some.inj (m1.symm.trans m1')
      have er : r = r' := congrArg (fun q => q.1) e
      have es : mup F1 0 S0 = mup F1 0 S' := congrArg (fun q => q.2.2.2) e
      refine ⟨_, by rw [x1', er], ?_⟩
      show FR d M1 (mup F1 0 S0) X' XF' G (P1 (ue u)) (tl1 (ue u))
      rw [es]; exact f1'
    refine ⟨r, (M1, g2, mup F1 0 S0), fun u => (ch u).choose, ?_, fun u => (ch u).choose_spec.1, fun u => (ch u).choose_spec.2⟩
    unfold fX4_transmit
    rw [if_neg nl]
    refine (b1_e (in150M K v)).trans ?_
    rw [if_pos (decide_eq_true c)]
    refine (b1_e a1).trans ?_
    refine (b2_e p1).trans ?_
    refine (ga_t ⟨by decide, by decide⟩).trans ?_
    exact (b2_e p2).trans m1
  · refine OK.same (r := -1) h (g := g) (gx := gx) ?_ fun u => ?_
    · unfold fX4_transmit
      rw [if_neg nl]
      refine (b1_e (in150M K v)).trans ?_
      rw [if_neg (by rw [decide_eq_false c]; decide)]
    · unfold fX0_transmit
      refine (b2_e (readyX K _)).trans ?_
      rw [nmr, if_pos rfl]
      refine (b1_e (in150X K v)).trans ?_
      rw [if_neg (by rw [decide_eq_false c]; decide), xmrg_r]
end OPS
