/-! plain law: a round on both sides -/
set_option maxRecDepth 100000
def S5 (M : Nat → Int32) (ev fo fr cd cr : Int32) : Nat → Int32 := mup (mup (mup (mup (mup M 39 ev) 40 fo) 41 fr) 42 cd) 43 cr
theorem S5_lo {M : Nat → Int32} {ev fo fr cd cr : Int32} {k : Nat} (h : k < 39 ∨ 43 < k) : S5 M ev fo fr cd cr k = M k := by
  unfold S5
  rw [mup_n _ _ (by omega), mup_n _ _ (by omega), mup_n _ _ (by omega), mup_n _ _ (by omega), mup_n _ _ (by omega)]
theorem S5_39 (M : Nat → Int32) (ev fo fr cd cr x : Int32) : mup (S5 M ev fo fr cd cr) 39 x = S5 M x fo fr cd cr := by
  unfold S5
  funext k
  simp only [mup_e]
  repeat' split
  all_goals first | rfl | omega
theorem S5_40 (M : Nat → Int32) (ev fo fr cd cr x : Int32) : mup (S5 M ev fo fr cd cr) 40 x = S5 M ev x fr cd cr := by
  unfold S5
  funext k
  simp only [mup_e]
  repeat' split
  all_goals first | rfl | omega
theorem S5_41 (M : Nat → Int32) (ev fo fr cd cr x : Int32) : mup (S5 M ev fo fr cd cr) 41 x = S5 M ev fo x cd cr := by
  unfold S5
  funext k
  simp only [mup_e]
  repeat' split
  all_goals first | rfl | omega
theorem S5_42 (M : Nat → Int32) (ev fo fr cd cr x : Int32) : mup (S5 M ev fo fr cd cr) 42 x = S5 M ev fo fr x cr := by
  unfold S5
  funext k
  simp only [mup_e]
  repeat' split
  all_goals first | rfl | omega
theorem S5_43 (M : Nat → Int32) (ev fo fr cd cr x : Int32) : mup (S5 M ev fo fr cd cr) 43 x = S5 M ev fo fr cd x := by
  unfold S5
  funext k
  simp only [mup_e]
  repeat' split
  all_goals first | rfl | omega
theorem S5_v (M : Nat → Int32) (ev fo fr cd cr : Int32) : S5 M ev fo fr cd cr 39 = ev ∧ S5 M ev fo fr cd cr 40 = fo ∧ S5 M ev fo fr cd cr 41 = fr ∧ S5 M ev fo fr cd cr 42 = cd ∧ S5 M ev fo fr cd cr 43 = cr := ⟨rfl, rfl, rfl, rfl, rfl⟩
theorem S5_id (M : Nat → Int32) : S5 M (M 39) (M 40) (M 41) (M 42) (M 43) = M := by
  unfold S5
  funext k
  simp only [mup_e]
  repeat' split
  all_goals first | rfl | (rename_i h; rw [h]) | skip
theorem swV_S5 (M : Nat → Int32) (F : Nat → Nat → Int32) (ev fo fr cd cr s f : Int32) : swV (S5 M ev fo fr cd cr) F s f = swV M F s f := rfl
section RND
variable {K : Nat} {d : Nat → ClassId} {M : Nat → Int32} {F : Nat → Nat → Int32} {X : Nat → Int32} {XF : Nat → Nat → Int32} {G : Nat → Nat → Int64} {g gx : Nat → Int64} {P : Nat → Nat → Option Nat} {tl : va_W}
theorem CR.S5 (h : CR M F X XF G) (ev fo fr cd cr : Int32) : CR (S5 M ev fo fr cd cr) F X XF G :=
  CR.mk (h.t.cg (fun k _ _ => S5_lo (by omega)) (fun _ _ _ => rfl) (fun _ _ _ => rfl) (fun _ _ _ => rfl)) h.s (by rw [S5_lo (by omega)]; exact h.ld)
theorem CR.sx (h : CR M F X XF G) {X' : Nat → Int32} (e : ∀ k, k ≠ 20 → k ≠ 90 → k ≠ 91 → X' k = X k) : CR M F X' XF G :=
  CR.mk (h.t.cg (fun _ _ _ => rfl) (fun _ _ _ => rfl) (fun k _ _ => e k (by omega) (by omega) (by omega)) (fun _ _ _ => rfl)) (h.s.cx (fun k _ _ => e k (by omega) (by omega) (by omega)) (fun _ _ _ => rfl)) h.ld
theorem ok3_b {t : T3} (h : ok3 t) : 0 ≤ (code3 t).toInt ∧ (code3 t).toInt ≤ 8191 := tog2 h
theorem tryM (h : CR M F X XF G) (hK : 40 ≤ K) (ev fo fr cd cr : Int32) {t : T3} (ht : ok3 t) : ∃ g', fX4_tryOne K t.1 t.2.1 t.2.2 (S5 M ev fo fr cd cr, g, F) = some (S5 M (ev + 1) fo fr (if cd < 0 then code3 t else if cr ≤ swV M F (code3 t) (F 0 0) then cd else code3 t) (if cd < 0 then swV M F (code3 t) (F 0 0) else if cr ≤ swV M F (code3 t) (F 0 0) then cr else swV M F (code3 t) (F 0 0)), g', F) := by
  obtain ⟨g', a1⟩ := ratioM (g := g) (h.S5 ev fo fr cd cr).t hK (ok3_b ht) h.s.v_fq
  rw [swV_S5] at a1
  refine ⟨g', ?_⟩
  unfold fX4_tryOne
  refine (b1_e (areM K _ _ _)).trans ?_
  rw [if_pos (decide_eq_true ht)]
  unfold fX4_together
  refine (b1_e rfl).trans ?_
  refine (ga_t ⟨by decide, by decide⟩).trans ?_
  refine (b2_e a1).trans ?_
  rw [nmr]
  show (if mup (S5 M ev fo fr cd cr) 39 (ev + 1) 42 < 0 then fX4_tryOne_L58 K (code3 t) (swV M F (code3 t) (F 0 0)) (mup (S5 M ev fo fr cd cr) 39 (ev + 1), g', F) else if mup (S5 M ev fo fr cd cr) 39 (ev + 1) 43 ≤ swV M F (code3 t) (F 0 0) then some (mup (S5 M ev fo fr cd cr) 39 (ev + 1), g', F) else fX4_tryOne_L58 K (code3 t) (swV M F (code3 t) (F 0 0)) (mup (S5 M ev fo fr cd cr) 39 (ev + 1), g', F)) = _
  have e58 : fX4_tryOne_L58 K (code3 t) (swV M F (code3 t) (F 0 0)) (mup (S5 M ev fo fr cd cr) 39 (ev + 1), g', F) = some (S5 M (ev + 1) fo fr (code3 t) (swV M F (code3 t) (F 0 0)), g', F) := by
    unfold fX4_tryOne_L58
    rw [nmr, nmr]
    show some (mup (mup (mup (S5 M ev fo fr cd cr) 39 (ev + 1)) 42 (code3 t)) 43 (swV M F (code3 t) (F 0 0)), g', F) = _
    rw [S5_39, S5_42, S5_43]
  rw [e58, S5_39, (S5_v M (ev + 1) fo fr cd cr).2.2.2.1, (S5_v M (ev + 1) fo fr cd cr).2.2.2.2]
  by_cases c : cd < 0
  · rw [if_pos c, if_pos c, if_pos c]
  · rw [if_neg c, if_neg c, if_neg c]
    by_cases c2 : cr ≤ swV M F (code3 t) (F 0 0)
    · rw [if_pos c2, if_pos c2, if_pos c2]
    · rw [if_neg c2, if_neg c2, if_neg c2]
theorem tryN (ev fo fr cd cr : Int32) {t : T3} (ht : ¬ ok3 t) : fX4_tryOne K t.1 t.2.1 t.2.2 (S5 M ev fo fr cd cr, g, F) = some (S5 M ev fo fr cd cr, g, F) := by
  unfold fX4_tryOne
  refine (b1_e (areM K _ _ _)).trans ?_
  rw [if_neg (by rw [decide_eq_false ht]; decide)]
theorem possX (K : Nat) (t : T3) (h : 0 ≤ t.1.toInt ∧ t.1.toInt ≤ 1) : fX2_isPossibleq K (t.1, t.2.1, t.2.2) = some (decide (ok3 t)) := by
  unfold fX2_isPossibleq
  show b1 (fX0_isIn K t.2.1 0 63) _ = _
  have e1 : fX0_isIn K t.2.1 0 63 = some (decide (0 ≤ t.2.1.toInt ∧ t.2.1.toInt ≤ 63)) := isInX K _ 0 63
  have e2 : fX0_isIn K t.2.2 0 63 = some (decide (0 ≤ t.2.2.toInt ∧ t.2.2.toInt ≤ 63)) := isInX K _ 0 63
  refine (b1_e e1).trans ?_
  by_cases c1 : 0 ≤ t.2.1.toInt ∧ t.2.1.toInt ≤ 63
  · rw [if_pos (decide_eq_true c1)]
    refine (b1_e e2).trans ?_
    by_cases c2 : 0 ≤ t.2.2.toInt ∧ t.2.2.toInt ≤ 63
    · rw [if_pos (decide_eq_true c2), decide_eq_true (show ok3 t from ⟨h, c1, c2⟩)]
    · rw [if_neg (by rw [decide_eq_false c2]; decide), decide_eq_false (show ¬ ok3 t from fun q => c2 q.2.2)]
  · rw [if_neg (by rw [decide_eq_false c1]; decide), decide_eq_false (show ¬ ok3 t from fun q => c1 q.2.1)]
theorem evalX (h : CR M F X XF G) (hK : 40 ≤ K) {t : T3} (ht : ok3 t) : ∃ X2 g2, fX9_evaluate K (t.1, t.2.1, t.2.2) (X, gx, XF, G, P) = some (swV M F (code3 t) (F 0 0), (X2, g2, XF, G, P)) ∧ (∀ k, k ≠ 20 → X2 k = mup X 91 (X 91 + 1) k) := by
  have h1 : CR M F (mup X 91 (X 91 + 1)) XF G := h.sx (fun k _ _ h91 => mup_n _ _ h91)
  obtain ⟨X2, g2, a1, a2, a3⟩ := swrBy' (gx := gx) (P := P) h1 hK (ok3_b ht)
  refine ⟨X2, g2, ?_, a2⟩
  unfold fX9_evaluate
  rw [nmr]
  unfold fX2_codeq
  refine (b1_e rfl).trans ?_
  refine (b2_e a1).trans ?_
  rw [nmr]
  show some (_, xmrg (mup X 91 (X 91 + 1), gx, XF, G, P) (X2, g2, XF, G, P)) = _
  rw [xmrg_e (fun k hk => a2 k (by omega))]
/-- the best of a round, on both sides -/
def Inv (M : Nat → Int32) (F : Nat → Nat → Int32) (now : T3) (fr cd cr : Int32) (best : T3) (least : Int32) : Prop :=
  (cd < 0 ∧ best = now ∧ least = fr) ∨ (¬ cd < 0 ∧ (cr = swV M F cd (F 0 0) ∧ 0 ≤ cd.toInt ∧ cd.toInt ≤ 8191) ∧ ((cr < fr ∧ code3 best = cd ∧ ok3 best ∧ least = cr) ∨ (¬ cr < fr ∧ best = now ∧ least = fr)))
theorem gstep (hc : CR M F X XF G) (hK : 40 ≤ K) {nx now best : T3} (hnx : 0 ≤ nx.1.toInt ∧ nx.1.toInt ≤ 1) {ev fo fr cd cr least : Int32} (hI : Inv M F now fr cd cr best least) (hfr : fr.toInt ≤ 99999) (hev : X 91 = ev) : ∃ (ev' cd' cr' : Int32) (g' : Nat → Int64) (best' : T3) (least' : Int32) (X' : Nat → Int32) (gx' : Nat → Int64), fX4_tryOne K nx.1 nx.2.1 nx.2.2 (S5 M ev fo fr cd cr, g, F) = some (S5 M ev' fo fr cd' cr', g', F) ∧ (∀ nxt : T3 → Int32 → XS → Option RI, gst K nx nxt best least (X, gx, XF, G, P) = nxt best' least' (X', gx', XF, G, P)) ∧ Inv M F now fr cd' cr' best' least' ∧ X' 91 = ev' ∧ (∀ k, k ≠ 20 → k ≠ 91 → X' k = X k) ∧ (ok3 nx → ¬ cd' < 0) := by
  have hl : least.toInt ≤ 99999 := by
    rcases hI with ⟨_, _, e⟩ | ⟨_, _, ⟨e1, _, _, e⟩ | ⟨_, _, e⟩⟩
    · rw [e]; exact hfr
    · rw [e]; rw [lt32] at e1; omega
    · rw [e]; exact hfr
  by_cases c : ok3 nx
  · obtain ⟨g', a1⟩ := tryM (g := g) hc hK ev fo fr cd cr c
    obtain ⟨X2, gx2, b1', b2'⟩ := evalX (gx := gx) (P := P) hc hK c
    have hcb := ok3_b c
    have hcn : ¬ code3 nx < 0 := by rw [lt32, k32_0]; omega
    generalize hv : swV M F (code3 nx) (F 0 0) = v at a1 b1'
    have x1 : ∀ nxt : T3 → Int32 → XS → Option RI, gst K nx nxt best least (X, gx, XF, G, P) = if least ≤ v then nxt best least (X2, gx2, XF, G, P) else nxt nx v (X2, gx2, XF, G, P) := by
      intro nxt
      unfold gst
      refine (b1_e (possX K nx hnx)).trans ?_
      rw [if_pos (decide_eq_true c)]
      exact b2_e b1'
    have e91 : X2 91 = ev + 1 := by rw [b2' 91 (by decide), mup_s, hev]
    have eo : ∀ k, k ≠ 20 → k ≠ 91 → X2 k = X k := fun k h1 h2 => by rw [b2' k h1, mup_n _ _ h2]
    rcases hI with ⟨h1, h2, h3⟩ | ⟨h1, h4, ⟨h5, h6, h7, h8⟩ | ⟨h5, h6, h7⟩⟩
    · rw [if_pos h1, if_pos h1] at a1
      by_cases c2 : least ≤ v
      · refine ⟨ev + 1, code3 nx, v, g', best, least, X2, gx2, a1, fun nxt => by rw [x1 nxt, if_pos c2], Or.inr ⟨hcn, ⟨hv.symm, hcb⟩, Or.inr ⟨?_, h2, h3⟩⟩, e91, eo, fun _ => hcn⟩
        rw [h3, le32] at c2
        rw [lt32]
        omega
      · refine ⟨ev + 1, code3 nx, v, g', nx, v, X2, gx2, a1, fun nxt => by rw [x1 nxt, if_neg c2], Or.inr ⟨hcn, ⟨hv.symm, hcb⟩, Or.inl ⟨?_, rfl, c, rfl⟩⟩, e91, eo, fun _ => hcn⟩
        rw [h3, le32] at c2
        rw [lt32]
        omega
    · rw [if_neg h1, if_neg h1] at a1
      rw [h8] at x1
      by_cases c2 : cr ≤ v
      · rw [if_pos c2, if_pos c2] at a1
        exact ⟨ev + 1, cd, cr, g', best, cr, X2, gx2, a1, fun nxt => by rw [h8, x1 nxt, if_pos c2], Or.inr ⟨h1, h4, Or.inl ⟨h5, h6, h7, rfl⟩⟩, e91, eo, fun _ => h1⟩
      · rw [if_neg c2, if_neg c2] at a1
        refine ⟨ev + 1, code3 nx, v, g', nx, v, X2, gx2, a1, fun nxt => by rw [h8, x1 nxt, if_neg c2], Or.inr ⟨hcn, ⟨hv.symm, hcb⟩, Or.inl ⟨?_, rfl, c, rfl⟩⟩, e91, eo, fun _ => hcn⟩
        rw [le32] at c2
        rw [lt32] at h5 ⊢
        omega
    · rw [if_neg h1, if_neg h1] at a1
      by_cases c2 : cr ≤ v
      · rw [if_pos c2, if_pos c2] at a1
        have c3 : least ≤ v := by
          rw [h7, le32]
          rw [le32] at c2
          rw [lt32] at h5
          omega
        exact ⟨ev + 1, cd, cr, g', best, least, X2, gx2, a1, fun nxt => by rw [x1 nxt, if_pos c3], Or.inr ⟨h1, h4, Or.inr ⟨h5, h6, h7⟩⟩, e91, eo, fun _ => h1⟩
      · rw [if_neg c2, if_neg c2] at a1
        by_cases c3 : least ≤ v
        · refine ⟨ev + 1, code3 nx, v, g', best, least, X2, gx2, a1, fun nxt => by rw [x1 nxt, if_pos c3], Or.inr ⟨hcn, ⟨hv.symm, hcb⟩, Or.inr ⟨?_, h6, h7⟩⟩, e91, eo, fun _ => hcn⟩
          rw [h7, le32] at c3
          rw [lt32]
          omega
        · refine ⟨ev + 1, code3 nx, v, g', nx, v, X2, gx2, a1, fun nxt => by rw [x1 nxt, if_neg c3], Or.inr ⟨hcn, ⟨hv.symm, hcb⟩, Or.inl ⟨?_, rfl, c, rfl⟩⟩, e91, eo, fun _ => hcn⟩
          rw [h7, le32] at c3
          rw [lt32]
          omega
  · refine ⟨ev, cd, cr, g, best, least, X, gx, tryN ev fo fr cd cr c, fun nxt => ?_, hI, hev, fun _ _ _ => rfl, fun h => absurd h c⟩
    unfold gst
    refine (b1_e (possX K nx hnx)).trans ?_
    rw [if_neg (by rw [decide_eq_false c]; decide), if_pos (by rw [le32, k32_99999]; exact hl)]
end RND
