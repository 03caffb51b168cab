/-! plain law: what changes the frequency and the setting -/
set_option maxRecDepth 100000
theorem FR.ld {d M F X XF G P tl} (h : FR d M F X XF G P tl) : CR M F X XF G := by
  obtain ⟨bl, rest, ch, n, hc, _⟩ := h
  exact hc
theorem FR.st {d M F X XF G P tl} (h : FR d M F X XF G P tl) {S' X' XF'} (hS : SR S' X' XF') (hM : ∀ k, 205 ≤ k → k < 254 → S' k = F 0 k) (hX : ∀ k, (k < 60 ∨ 67 ≤ k) → k ≠ 20 → X' k = X k) (hXF : ∀ k, k ≠ 64 → k ≠ 65 → XF' k = XF k) : FR d M (mup F 0 S') X' XF' G P tl := by
  obtain ⟨bl, rest, ch, n, hc, hm, h2, hh, hp, hf, h10, ht⟩ := h
  refine ⟨bl, rest, ch, n, CR.mk (hc.t.cg (fun k _ _ => rfl) (fun k _ _ => mup_n _ _ (by omega)) (fun k _ _ => hX k (by omega) (by omega)) (fun k _ _ => hXF k (by omega) (by omega))) ?_ hc.ld, ?_, h2, ?_, hp, ?_, ?_, ?_⟩
  · rw [mup_s]; exact hS
  · rw [mup_s, hX 72 (by omega) (by omega)]
    exact hm.cg hM (fun c hc => hc)
  · rw [hX 81 (by omega) (by omega), hX 82 (by omega) (by omega), mup_n _ _ (by omega)]
    exact hh
  · exact hf.cg rfl (mup_n F _ (by omega)) (mup_n F _ (by omega)) (fun c hc => hc)
  · rw [hX 10 (by omega) (by omega)]; exact h10
  · exact ht.cg rfl rfl (mup_n F _ (by omega)) (hX 1 (by omega) (by omega)) (hX 2 (by omega) (by omega)) (hXF 1 (by omega) (by omega))
theorem FR.scr {d M F X XF G P tl} (h : FR d M F X XF G P tl) {X'} (hX : ∀ k, k ≠ 20 → X' k = X k) : FR d M F X' XF G P tl := by
  have := h.st (S' := F 0) (X' := X') (XF' := XF) (h.ld.s.cx (fun k _ _ => hX k (by omega)) (fun _ _ _ => rfl)) (fun _ _ _ => rfl) (fun k _ h => hX k h) (fun _ _ _ => rfl)
  rw [mup_id _ _ _ rfl] at this
  exact this
theorem blt_t {k n : Nat} (h : k < n) : Nat.blt k n = true := by rw [Nat.blt_eq]; exact h
theorem blt_f {k n : Nat} (h : n ≤ k) : Nat.blt k n = false := by
  rw [← Bool.not_eq_true, Nat.blt_eq]; omega
theorem xmrg_e {X X' : Nat → Int32} {g g' : Nat → Int64} {XF XF' : Nat → Nat → Int32} {G G' : Nat → Nat → Int64} {P P' : Nat → Nat → Option Nat} (h : ∀ k, 70 ≤ k → X' k = X k) : xmrg (X, g, XF, G, P) (X', g', XF', G', P') = (X', g', XF', G', P) := by
  have e : (fun k => cond (Nat.blt k 70) (X' k) (X k)) = X' := by
    funext k
    by_cases c : k < 70
    · rw [blt_t c]; rfl
    · rw [blt_f (by omega), h k (by omega)]; rfl
  show ((fun k => cond (Nat.blt k 70) (X' k) (X k)), g', XF', G', P) = _
  rw [e]
theorem xmrg_r (ξ : XS) : xmrg ξ ξ = ξ := xmrg_e (fun _ _ => rfl)
def chS (S : Nat → Int32) (k : Nat) (v : Int32) : Nat → Int32 := upd (if S k = v then S else upd (upd S 2 0) 3 1) k v
def chX (X : Nat → Int32) (k : Nat) (v : Int32) : Nat → Int32 := mup (if X k = v then X else mup (mup X 62 0) 63 1) k v
theorem chM0 (K : Nat) (v : Int32) (M : Nat → Int32) (g : Nat → Int64) (F : Nat → Nat → Int32) : fX4_change K 0 v (M, g, F) = some (M, g, mup F 0 (chS (F 0) 0 v)) := by
  unfold fX4_change
  refine (ga_t ⟨by decide, by decide⟩).trans ?_
  show (if F 0 0 = v then _ else _) = _
  unfold chS
  by_cases c : F 0 0 = v
  · rw [if_pos c, if_pos c]; rfl
  · rw [if_neg c, if_neg c]
    refine (ga_t ⟨by decide, by decide⟩).trans ?_
    rw [nmr]
    refine (ga_t ⟨by decide, by decide⟩).trans ?_
    rw [nmr]
    unfold fX4_change_L24
    refine (ga_t ⟨by decide, by decide⟩).trans ?_
    rw [nmr]
    show some (M, g, mup (mup (mup F 0 (upd (F 0) 2 0)) 0 (upd (mup F 0 (upd (F 0) 2 0) 0) 3 1)) 0 (upd (mup (mup F 0 (upd (F 0) 2 0)) 0 (upd (mup F 0 (upd (F 0) 2 0) 0) 3 1) 0) 0 v)) = _
    rw [mup_mup, mup_mup, mup_s, mup_s]
theorem chM1 (K : Nat) (v : Int32) (M : Nat → Int32) (g : Nat → Int64) (F : Nat → Nat → Int32) : fX4_change K 1 v (M, g, F) = some (M, g, mup F 0 (chS (F 0) 1 v)) := by
  unfold fX4_change
  refine (ga_t ⟨by decide, by decide⟩).trans ?_
  show (if F 0 1 = v then _ else _) = _
  unfold chS
  by_cases c : F 0 1 = v
  · rw [if_pos c, if_pos c]; rfl
  · rw [if_neg c, if_neg c]
    refine (ga_t ⟨by decide, by decide⟩).trans ?_
    rw [nmr]
    refine (ga_t ⟨by decide, by decide⟩).trans ?_
    rw [nmr]
    unfold fX4_change_L24
    refine (ga_t ⟨by decide, by decide⟩).trans ?_
    rw [nmr]
    show some (M, g, mup (mup (mup F 0 (upd (F 0) 2 0)) 0 (upd (mup F 0 (upd (F 0) 2 0) 0) 3 1)) 0 (upd (mup (mup F 0 (upd (F 0) 2 0)) 0 (upd (mup F 0 (upd (F 0) 2 0) 0) 3 1) 0) 1 v)) = _
    rw [mup_mup, mup_mup, mup_s, mup_s]
section CHX
variable {K : Nat} {X : Nat → Int32} {gx : Nat → Int64} {XF : Nat → Nat → Int32} {G : Nat → Nat → Int64} {P : Nat → Nat → Option Nat}
theorem chX60 (K : Nat) (v : Int32) : fX8_setFrequency K v (X, gx, XF, G, P) = some (chX X 60 v, gx, XF, G, P) := by
  unfold fX8_setFrequency chX
  show (if v = X 60 then _ else _) = _
  by_cases c : X 60 = v
  · rw [if_pos c.symm, if_pos c]; rfl
  · rw [if_neg (fun h => c h.symm), if_neg c]; rfl
theorem chX61 (K : Nat) (v : Int32) : fX8_setSettings K v (X, gx, XF, G, P) = some (chX X 61 v, gx, XF, G, P) := by
  unfold fX8_setSettings chX
  show (if v = X 61 then _ else _) = _
  by_cases c : X 61 = v
  · rw [if_pos c.symm, if_pos c]; rfl
  · rw [if_neg (fun h => c h.symm), if_neg c]; rfl
end CHX
theorem chX_o {X : Nat → Int32} {k : Nat} {v : Int32} (hk : k = 60 ∨ k = 61) {j : Nat} (hj : j < 60 ∨ 64 ≤ j) : chX X k v j = X j := by
  unfold chX
  rw [mup_n _ _ (by omega)]
  split
  · rfl
  · rw [mup_n _ _ (by omega), mup_n _ _ (by omega)]
theorem chS_o {S : Nat → Int32} {k : Nat} {v : Int32} (hk : k = 0 ∨ k = 1) {j : Nat} (hj : 4 ≤ j) : chS S k v j = S j := by
  unfold chS
  rw [upd_e, if_neg (by omega)]
  split
  · rfl
  · rw [upd_e, if_neg (by omega), upd_e, if_neg (by omega)]
theorem SR.ch0 {S X XF} (h : SR S X XF) {v : Int32} (hv : 1500 ≤ v.toInt ∧ v.toInt ≤ 30000) : SR (chS S 0 v) (chX X 60 v) XF := by
  have o4 : ∀ j, 4 ≤ j → chS S 0 v j = S j := fun j hj => chS_o (Or.inl rfl) hj
  have o6 : ∀ j, 64 ≤ j → chX X 60 v j = X j := fun j hj => chX_o (Or.inl rfl) (Or.inr hj)
  have e0 : chS S 0 v 0 = v := by unfold chS; rw [upd_e, if_pos rfl]
  have x0 : chX X 60 v 60 = v := by unfold chX; rw [mup_s]
  have e1 : chS S 0 v 1 = S 1 := by
    unfold chS; rw [upd_e, if_neg (by decide)]; split
    · rfl
    · rw [upd_e, if_neg (by decide), upd_e, if_neg (by decide)]
  have x1 : chX X 60 v 61 = X 61 := by
    unfold chX; rw [mup_n _ _ (by decide)]; split
    · rfl
    · rw [mup_n _ _ (by decide), mup_n _ _ (by decide)]
  have e23 : (chS S 0 v 2 = S 2 ∧ chS S 0 v 3 = S 3 ∧ chX X 60 v 62 = X 62 ∧ chX X 60 v 63 = X 63) ∨ (chS S 0 v 2 = 0 ∧ chS S 0 v 3 = 1 ∧ chX X 60 v 62 = 0 ∧ chX X 60 v 63 = 1) := by
    by_cases c : S 0 = v
    · left
      unfold chS chX
      rw [h.fq, if_pos c, if_pos c]
      exact ⟨rfl, rfl, rfl, rfl⟩
    · right
      unfold chS chX
      rw [h.fq, if_neg c, if_neg c]
      exact ⟨rfl, rfl, rfl, rfl⟩
  refine SR.mk (by rw [e0, x0]) (by rw [e1, x1]; exact h.st) ?_ ?_ (by rw [o4 4 (by omega), o6 66 (by omega)]; exact h.rc) ?_ ?_ (by rw [e0]; exact hv) (by rw [e1]; exact h.v_st) ?_ ?_ (by rw [o4 4 (by omega)]; exact h.v_rc) ?_ h.v_fs
  · rcases e23 with ⟨a, b, c, d⟩ | ⟨a, b, c, d⟩
    · rw [a, c]; exact h.ht
    · rw [a, c]
  · rcases e23 with ⟨a, b, c, d⟩ | ⟨a, b, c, d⟩
    · rw [b, d]; exact h.ch
    · rw [b, d]
  · intro k hk; rw [o4 4 (by omega)] at hk; rw [o4 _ (by omega)]; exact h.rd k hk
  · intro k hk; rw [o4 4 (by omega)] at hk; rw [o4 _ (by omega)]; exact h.fs k hk
  · rcases e23 with ⟨a, b, c, d⟩ | ⟨a, b, c, d⟩
    · rw [a]; exact h.v_ht
    · rw [a]; decide
  · rcases e23 with ⟨a, b, c, d⟩ | ⟨a, b, c, d⟩
    · rw [b]; exact h.v_ch
    · rw [b]; exact Or.inr rfl
  · intro k hk; rw [o4 4 (by omega)] at hk; rw [o4 _ (by omega)]; exact h.v_rd k hk
theorem SR.ch1 {S X XF} (h : SR S X XF) {v : Int32} (hv : 0 ≤ v.toInt ∧ v.toInt ≤ 8191) : SR (chS S 1 v) (chX X 61 v) XF := by
  have o4 : ∀ j, 4 ≤ j → chS S 1 v j = S j := fun j hj => chS_o (Or.inr rfl) hj
  have o6 : ∀ j, 64 ≤ j → chX X 61 v j = X j := fun j hj => chX_o (Or.inr rfl) (Or.inr hj)
  have e0 : chS S 1 v 1 = v := by unfold chS; rw [upd_e, if_pos rfl]
  have x0 : chX X 61 v 61 = v := by unfold chX; rw [mup_s]
  have e1 : chS S 1 v 0 = S 0 := by
    unfold chS; rw [upd_e, if_neg (by decide)]; split
    · rfl
    · rw [upd_e, if_neg (by decide), upd_e, if_neg (by decide)]
  have x1 : chX X 61 v 60 = X 60 := by
    unfold chX; rw [mup_n _ _ (by decide)]; split
    · rfl
    · rw [mup_n _ _ (by decide), mup_n _ _ (by decide)]
  have e23 : (chS S 1 v 2 = S 2 ∧ chS S 1 v 3 = S 3 ∧ chX X 61 v 62 = X 62 ∧ chX X 61 v 63 = X 63) ∨ (chS S 1 v 2 = 0 ∧ chS S 1 v 3 = 1 ∧ chX X 61 v 62 = 0 ∧ chX X 61 v 63 = 1) := by
    by_cases c : S 1 = v
    · left
      unfold chS chX
      rw [h.st, if_pos c, if_pos c]
      exact ⟨rfl, rfl, rfl, rfl⟩
    · right
      unfold chS chX
      rw [h.st, if_neg c, if_neg c]
      exact ⟨rfl, rfl, rfl, rfl⟩
  refine SR.mk (by rw [e1, x1]; exact h.fq) (by rw [e0, x0]) ?_ ?_ (by rw [o4 4 (by omega), o6 66 (by omega)]; exact h.rc) ?_ ?_ (by rw [e1]; exact h.v_fq) (by rw [e0]; exact hv) ?_ ?_ (by rw [o4 4 (by omega)]; exact h.v_rc) ?_ h.v_fs
  · rcases e23 with ⟨a, b, c, d⟩ | ⟨a, b, c, d⟩
    · rw [a, c]; exact h.ht
    · rw [a, c]
  · rcases e23 with ⟨a, b, c, d⟩ | ⟨a, b, c, d⟩
    · rw [b, d]; exact h.ch
    · rw [b, d]
  · intro k hk; rw [o4 4 (by omega)] at hk; rw [o4 _ (by omega)]; exact h.rd k hk
  · intro k hk; rw [o4 4 (by omega)] at hk; rw [o4 _ (by omega)]; exact h.fs k hk
  · rcases e23 with ⟨a, b, c, d⟩ | ⟨a, b, c, d⟩
    · rw [a]; exact h.v_ht
    · rw [a]; decide
  · rcases e23 with ⟨a, b, c, d⟩ | ⟨a, b, c, d⟩
    · rw [b]; exact h.v_ch
    · rw [b]; exact Or.inr rfl
  · intro k hk; rw [o4 4 (by omega)] at hk; rw [o4 _ (by omega)]; exact h.v_rd k hk
/-! coil, capacitor of a setting -/
abbrev sdO (s : Int32) : Int32 := s / 4096
abbrev coO (s : Int32) : Int32 := (s / 64) - (s / 64) / 64 * 64
abbrev caO (s : Int32) : Int32 := s - s / 64 * 64
theorem k32_64 : (64 : Int32).toInt = 64 := rfl
theorem k32_4096 : (4096 : Int32).toInt = 4096 := rfl
theorem parts32 {s : Int32} (hs : 0 ≤ s.toInt ∧ s.toInt ≤ 8191) : (sdO s).toInt = s.toInt / 4096 ∧ (coO s).toInt = s.toInt / 64 % 64 ∧ (caO s).toInt = s.toInt % 64 := by
  have e1 : (s / 4096).toInt = s.toInt / 4096 := by rw [d32 (by rw [k32_4096]; omega), k32_4096, Int.tdiv_eq_ediv_of_nonneg hs.1]
  have e2 : (s / 64).toInt = s.toInt / 64 := by rw [d32 (by rw [k32_64]; omega), k32_64, Int.tdiv_eq_ediv_of_nonneg hs.1]
  have e3 : (s / 64 / 64).toInt = s.toInt / 64 / 64 := by rw [d32 (by rw [k32_64]; omega), k32_64, e2, Int.tdiv_eq_ediv_of_nonneg (by omega)]
  have e4 : (s / 64 / 64 * 64).toInt = s.toInt / 64 / 64 * 64 := by rw [m32, e3, k32_64] <;> rw [e3, k32_64] <;> omega
  have e5 : (s / 64 * 64).toInt = s.toInt / 64 * 64 := by rw [m32, e2, k32_64] <;> rw [e2, k32_64] <;> omega
  refine ⟨e1, ?_, ?_⟩
  · show (s / 64 - s / 64 / 64 * 64).toInt = _
    rw [s32, e2, e4] <;> (try rw [e2, e4]) <;> omega
  · show (s - s / 64 * 64).toInt = _
    rw [s32, e5] <;> (try rw [e5]) <;> omega
theorem parts_b {s : Int32} (hs : 0 ≤ s.toInt ∧ s.toInt ≤ 8191) : (0 ≤ (sdO s).toInt ∧ (sdO s).toInt ≤ 1) ∧ (0 ≤ (coO s).toInt ∧ (coO s).toInt ≤ 63) ∧ (0 ≤ (caO s).toInt ∧ (caO s).toInt ≤ 63) := by
  obtain ⟨a, b, c⟩ := parts32 hs
  rw [a, b, c]
  omega
theorem tog2 {a b c : Int32} (h : (0 ≤ a.toInt ∧ a.toInt ≤ 1) ∧ (0 ≤ b.toInt ∧ b.toInt ≤ 63) ∧ (0 ≤ c.toInt ∧ c.toInt ≤ 63)) : 0 ≤ (4096 * a + 64 * b + c).toInt ∧ (4096 * a + 64 * b + c).toInt ≤ 8191 := ⟨(tog h).1, (tog h).2.1⟩
section OPS
variable {K : Nat} {d : Nat → ClassId} {M : Nat → Int32} {F : Nat → Nat → Int32} {X : Nat → Int32} {XF : Nat → Nat → Int32} {G : Nat → Nat → Int64} {g gx : Nat → Int64} {P : Nat → Nat → Option Nat} {tl : va_W}
theorem OK.same {α : Type} {r : α} {fa : Option (α × MS)} {fb : UU → Option (α × XT)} (h : FR d M F X XF G P tl) (h1 : fa = some (r, (M, g, F))) (h2 : ∀ u, fb u = some (r, ((X, gx, XF, G, P), tl))) : OK d fa fb := ⟨r, (M, g, F), fun _ => ((X, gx, XF, G, P), tl), h1, h2, fun _ => h⟩
theorem in01M (K : Nat) (v : Int32) : fX4_isIn K v.toInt64 0 1 = some (decide (0 ≤ v.toInt ∧ v.toInt ≤ 1)) := by
  rw [isInM, w64]; rfl
theorem in63M (K : Nat) (v : Int32) : fX4_isIn K v.toInt64 0 63 = some (decide (0 ≤ v.toInt ∧ v.toInt ≤ 63)) := by
  rw [isInM, w64]; rfl
theorem in01X (K : Nat) (v : Int32) : fX0_isIn K v 0 1 = some (decide (0 ≤ v.toInt ∧ v.toInt ≤ 1)) := isInX K v 0 1
theorem q_setFrequency (h : FR d M F X XF G P tl) (hK : 4000 ≤ K) (v : Int32) : OK d (fX4_setFrequency K v (M, g, F)) (fun u => fX0_setFrequency K d v u ((X, gx, XF, G, P), tl)) := by
  have nl := h.ld.nl
  by_cases c : 1500 ≤ v.toInt ∧ v.toInt ≤ 30000
  · obtain ⟨M1, F1, X1, P1, tl1, a1, a2, a3⟩ := remB h hK g gx
    have hu := a3 (fun _ => 0)
    obtain ⟨r1, r2, r3, r4, r5⟩ := hu
    have e0 : F1 0 = F 0 := r3 0 (by decide)
    have ex : X1 60 = F1 0 0 := r1.ld.s.fq
    refine ⟨F1 0 0, (M1, g, mup F1 0 (chS (F1 0) 0 v)), fun u => ((chX X1 60 v, gx, XF, G, P1 (ue u)), tl1 (ue u)), ?_, fun u => ?_, fun u => ?_⟩
    · unfold fX4_setFrequency
      rw [if_neg nl]
      refine (b1_e (isFreqM K v)).trans ?_
      rw [if_pos (decide_eq_true c)]
      refine (b1_e a1).trans ?_
      refine (ga_t ⟨by decide, by decide⟩).trans ?_
      rw [nmr]
      exact (b1_e (chM0 K v M1 g F1)).trans rfl
    · unfold fX0_setFrequency
      refine (b2_e (readyX K _)).trans ?_
      rw [nmr, if_pos rfl]
      refine (b1_e (isFreqX K v)).trans ?_
      rw [if_pos (decide_eq_true c), xmrg_r]
      unfold b1u
      refine (b1_e (a2 (ue u))).trans ?_
      show nm _ _ = _
      rw [nmr]
      refine (b1_e (chX60 K v)).trans ?_
      rw [nmr, xmrg_e (fun k hk => chX_o (Or.inl rfl) (by omega))]
      show some (X1 60, _) = _
      rw [ex]
    · exact (a3 (ue u)).1.st ((a3 (ue u)).1.ld.s.ch0 c) (fun k h1 h2 => chS_o (Or.inl rfl) (by omega)) (fun k h1 h2 => chX_o (Or.inl rfl) (by omega)) (fun _ _ _ => rfl)
  · refine OK.same (r := -1) h (g := g) (gx := gx) ?_ fun u => ?_
    · unfold fX4_setFrequency
      rw [if_neg nl]
      refine (b1_e (isFreqM K v)).trans ?_
      rw [if_neg (by rw [decide_eq_false c]; decide)]
    · unfold fX0_setFrequency
      refine (b2_e (readyX K _)).trans ?_
      rw [nmr, if_pos rfl]
      refine (b1_e (isFreqX K v)).trans ?_
      rw [if_neg (by rw [decide_eq_false c]; decide), xmrg_r]
theorem changeX (K : Nat) (a b c v : Int32) (hv : 4096 * a + 64 * b + c = v) (u : UU) {y : XT} {ζ : XT} (hy : fX0_remember K d (ue u) ζ = some y) : fX0_change K d (a, b, c) u ζ = some ((chX y.1.1 61 v, y.1.2.1, y.1.2.2.1, y.1.2.2.2.1, y.1.2.2.2.2), y.2) := by
  unfold fX0_change b1u
  refine (b1_e hy).trans ?_
  show b2 (fX2_code K (a, b, c)) _ = _
  unfold fX2_code
  refine (b2_e rfl).trans ?_
  refine (b1_e (by rw [hv]; exact chX61 K v)).trans ?_
  rw [nmr]
  obtain ⟨⟨X1, g1, F1, G1, P1⟩, t1⟩ := y
  show some (xmrg (X1, g1, F1, G1, P1) _, t1) = _
  rw [xmrg_e (fun k hk => chX_o (Or.inr rfl) (by omega))]
theorem q_setSide (h : FR d M F X XF G P tl) (hK : 4000 ≤ K) (v : Int32) : OK d (fX4_setSide K v (M, g, F)) (fun u => fX0_setSide K d v u ((X, gx, XF, G, P), tl)) := by
  have nl := h.ld.nl
  by_cases c : 0 ≤ v.toInt ∧ v.toInt ≤ 1
  · obtain ⟨M1, F1, X1, P1, tl1, a1, a2, a3⟩ := remB h hK g gx
    have hu := a3 (fun _ => 0)
    obtain ⟨r1, r2, r3, r4, r5⟩ := hu
    have ex : X 61 = F1 0 1 := by rw [r3 0 (by decide)]; exact h.ld.s.st
    have hs := r1.ld.s.v_st
    refine ⟨sdO (F1 0 1), (M1, g, mup F1 0 (chS (F1 0) 1 (4096 * v + 64 * (coO (F1 0 1)) + caO (F1 0 1)))), fun u => ((chX X1 61 (4096 * v + 64 * (coO (F1 0 1)) + caO (F1 0 1)), gx, XF, G, P1 (ue (ue u))), tl1 (ue (ue u))), ?_, fun u => ?_, fun u => ?_⟩
    · unfold fX4_setSide
      rw [if_neg nl]
      refine (b1_e (in01M K v)).trans ?_
      rw [if_pos (decide_eq_true c)]
      refine (b1_e a1).trans ?_
      refine (ga_t ⟨by decide, by decide⟩).trans ?_
      rw [nmr]
      unfold fX4_side fX4_coil fX4_capacitor fX4_together
      refine (b1_e rfl).trans ?_
      refine (b1_e rfl).trans ?_
      refine (b1_e rfl).trans ?_
      refine (b1_e (chM1 K _ M1 g F1)).trans ?_
      exact (b1_e rfl).trans rfl
    · unfold fX0_setSide
      refine (b2_e (readyX K _)).trans ?_
      rw [nmr, if_pos rfl]
      refine (b1_e (in01X K v)).trans ?_
      rw [if_pos (decide_eq_true c), xmrg_r]
      unfold fX0_present
      refine (b2_e (v := (sdO (X 61), coO (X 61), caO (X 61))) (w := (X, gx, XF, G, P)) rfl).trans ?_
      rw [nmr, xmrg_r]
      refine (b1_e (v := (v, coO (X 61), caO (X 61))) rfl).trans ?_
      unfold b1u
      refine (b1_e (changeX K _ _ _ _ rfl (ue u) (a2 (ue (ue u))))).trans ?_
      show some (sdO (X 61), _) = _
      rw [ex]
    · exact (a3 _).1.st ((a3 (ue (ue u))).1.ld.s.ch1 (tog2 ⟨c, (parts_b hs).2.1, (parts_b hs).2.2⟩)) (fun k h1 h2 => chS_o (Or.inr rfl) (by omega)) (fun k h1 h2 => chX_o (Or.inr rfl) (by omega)) (fun _ _ _ => rfl)
  · refine OK.same (r := -1) h (g := g) (gx := gx) ?_ fun u => ?_
    · unfold fX4_setSide
      rw [if_neg nl]
      refine (b1_e (in01M K v)).trans ?_
      rw [if_neg (by rw [decide_eq_false c]; decide)]
    · unfold fX0_setSide
      refine (b2_e (readyX K _)).trans ?_
      rw [nmr, if_pos rfl]
      refine (b1_e (in01X K v)).trans ?_
      rw [if_neg (by rw [decide_eq_false c]; decide), xmrg_r]
theorem q_setCoil (h : FR d M F X XF G P tl) (hK : 4000 ≤ K) (v : Int32) : OK d (fX4_setCoil K v (M, g, F)) (fun u => fX0_setCoil K d v u ((X, gx, XF, G, P), tl)) := by
  have nl := h.ld.nl
  by_cases c : 0 ≤ v.toInt ∧ v.toInt ≤ 63
  · obtain ⟨M1, F1, X1, P1, tl1, a1, a2, a3⟩ := remB h hK g gx
    have hu := a3 (fun _ => 0)
    obtain ⟨r1, r2, r3, r4, r5⟩ := hu
    have ex : X 61 = F1 0 1 := by rw [r3 0 (by decide)]; exact h.ld.s.st
    have hs := r1.ld.s.v_st
    refine ⟨coO (F1 0 1), (M1, g, mup F1 0 (chS (F1 0) 1 (4096 * sdO (F1 0 1) + 64 * (v) + caO (F1 0 1)))), fun u => ((chX X1 61 (4096 * sdO (F1 0 1) + 64 * (v) + caO (F1 0 1)), gx, XF, G, P1 (ue (ue u))), tl1 (ue (ue u))), ?_, fun u => ?_, fun u => ?_⟩
    · unfold fX4_setCoil
      rw [if_neg nl]
      refine (b1_e (in63M K v)).trans ?_
      rw [if_pos (decide_eq_true c)]
      refine (b1_e a1).trans ?_
      refine (ga_t ⟨by decide, by decide⟩).trans ?_
      rw [nmr]
      unfold fX4_side fX4_coil fX4_capacitor fX4_together
      refine (b1_e rfl).trans ?_
      refine (b1_e rfl).trans ?_
      refine (b1_e rfl).trans ?_
      refine (b1_e (chM1 K _ M1 g F1)).trans ?_
      exact (b1_e rfl).trans rfl
    · unfold fX0_setCoil
      refine (b2_e (readyX K _)).trans ?_
      rw [nmr, if_pos rfl]
      refine (b1_e (isSetX K v)).trans ?_
      rw [if_pos (decide_eq_true c), xmrg_r]
      unfold fX0_present
      refine (b2_e (v := (sdO (X 61), coO (X 61), caO (X 61))) (w := (X, gx, XF, G, P)) rfl).trans ?_
      rw [nmr, xmrg_r]
      refine (b1_e (v := (sdO (X 61), v, caO (X 61))) rfl).trans ?_
      unfold b1u
      refine (b1_e (changeX K _ _ _ _ rfl (ue u) (a2 (ue (ue u))))).trans ?_
      show some (coO (X 61), _) = _
      rw [ex]
    · exact (a3 _).1.st ((a3 (ue (ue u))).1.ld.s.ch1 (tog2 ⟨(parts_b hs).1, c, (parts_b hs).2.2⟩)) (fun k h1 h2 => chS_o (Or.inr rfl) (by omega)) (fun k h1 h2 => chX_o (Or.inr rfl) (by omega)) (fun _ _ _ => rfl)
  · refine OK.same (r := -1) h (g := g) (gx := gx) ?_ fun u => ?_
    · unfold fX4_setCoil
      rw [if_neg nl]
      refine (b1_e (in63M K v)).trans ?_
      rw [if_neg (by rw [decide_eq_false c]; decide)]
    · unfold fX0_setCoil
      refine (b2_e (readyX K _)).trans ?_
      rw [nmr, if_pos rfl]
      refine (b1_e (isSetX K v)).trans ?_
      rw [if_neg (by rw [decide_eq_false c]; decide), xmrg_r]
theorem q_setCapacitor (h : FR d M F X XF G P tl) (hK : 4000 ≤ K) (v : Int32) : OK d (fX4_setCapacitor K v (M, g, F)) (fun u => fX0_setCapacitor K d v u ((X, gx, XF, G, P), tl)) := by
  have nl := h.ld.nl
  by_cases c : 0 ≤ v.toInt ∧ v.toInt ≤ 63
  · obtain ⟨M1, F1, X1, P1, tl1, a1, a2, a3⟩ := remB h hK g gx
    have hu := a3 (fun _ => 0)
    obtain ⟨r1, r2, r3, r4, r5⟩ := hu
    have ex : X 61 = F1 0 1 := by rw [r3 0 (by decide)]; exact h.ld.s.st
    have hs := r1.ld.s.v_st
    refine ⟨caO (F1 0 1), (M1, g, mup F1 0 (chS (F1 0) 1 (4096 * sdO (F1 0 1) + 64 * (coO (F1 0 1)) + v))), fun u => ((chX X1 61 (4096 * sdO (F1 0 1) + 64 * (coO (F1 0 1)) + v), gx, XF, G, P1 (ue (ue u))), tl1 (ue (ue u))), ?_, fun u => ?_, fun u => ?_⟩
    · unfold fX4_setCapacitor
      rw [if_neg nl]
      refine (b1_e (in63M K v)).trans ?_
      rw [if_pos (decide_eq_true c)]
      refine (b1_e a1).trans ?_
      refine (ga_t ⟨by decide, by decide⟩).trans ?_
      rw [nmr]
      unfold fX4_side fX4_coil fX4_capacitor fX4_together
      refine (b1_e rfl).trans ?_
      refine (b1_e rfl).trans ?_
      refine (b1_e rfl).trans ?_
      refine (b1_e (chM1 K _ M1 g F1)).trans ?_
      exact (b1_e rfl).trans rfl
    · unfold fX0_setCapacitor
      refine (b2_e (readyX K _)).trans ?_
      rw [nmr, if_pos rfl]
      refine (b1_e (isSetX K v)).trans ?_
      rw [if_pos (decide_eq_true c), xmrg_r]
      unfold fX0_present
      refine (b2_e (v := (sdO (X 61), coO (X 61), caO (X 61))) (w := (X, gx, XF, G, P)) rfl).trans ?_
      rw [nmr, xmrg_r]
      refine (b1_e (v := (sdO (X 61), coO (X 61), v)) rfl).trans ?_
      unfold b1u
      refine (b1_e (changeX K _ _ _ _ rfl (ue u) (a2 (ue (ue u))))).trans ?_
      show some (caO (X 61), _) = _
      rw [ex]
    · exact (a3 _).1.st ((a3 (ue (ue u))).1.ld.s.ch1 (tog2 ⟨(parts_b hs).1, (parts_b hs).2.1, c⟩)) (fun k h1 h2 => chS_o (Or.inr rfl) (by omega)) (fun k h1 h2 => chX_o (Or.inr rfl) (by omega)) (fun _ _ _ => rfl)
  · refine OK.same (r := -1) h (g := g) (gx := gx) ?_ fun u => ?_
    · unfold fX4_setCapacitor
      rw [if_neg nl]
      refine (b1_e (in63M K v)).trans ?_
      rw [if_neg (by rw [decide_eq_false c]; decide)]
    · unfold fX0_setCapacitor
      refine (b2_e (readyX K _)).trans ?_
      rw [nmr, if_pos rfl]
      refine (b1_e (isSetX K v)).trans ?_
      rw [if_neg (by rw [decide_eq_false c]; decide), xmrg_r]
end OPS
