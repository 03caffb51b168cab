/-! plain law: what a search comes to -/
set_option maxRecDepth 100000
theorem b3u_l {R T γ : Type} {u : UU} {x : UU → Option (XR R T)} {kt : Nat → Nat → T → UU → Option γ} {kr : R → T → UU → Option γ} {c q : Nat} {ζ : T} (h : x (ue u) = some (.inl (c, q, ζ))) : b3u u x kt kr = kt c q ζ (uo u) := by
  unfold b3u
  rw [h]
theorem b3u_r {R T γ : Type} {u : UU} {x : UU → Option (XR R T)} {kt : Nat → Nat → T → UU → Option γ} {kr : R → T → UU → Option γ} {r : R} {ζ : T} (h : x (ue u) = some (.inr (r, ζ))) : b3u u x kt kr = kr r ζ (uo u) := by
  unfold b3u
  rw [h]
theorem xmrgS_e {X X' : Nat → Int32} {g g' : Nat → Int64} {XF XF' : Nat → Nat → Int32} {G G' : Nat → Nat → Int64} {P P' : Nat → Nat → Option Nat} (h : ∀ k, 70 ≤ k → k ≤ 89 → X' k = X k) : xmrgS (X, g, XF, G, P) (X', g', XF', G', P') = (X', g', XF', G', P) := by
  have e : (fun k => cond (Nat.blt k 70 || Nat.blt 89 k) (X' k) (X k)) = X' := by
    funext k
    by_cases c : k < 70
    · rw [blt_t c]; rfl
    · by_cases c2 : 89 < k
      · rw [blt_t c2, Bool.or_true]; rfl
      · rw [blt_f (show 70 ≤ k by omega), blt_f (show k ≤ 89 by omega), h k (by omega) (by omega)]; rfl
  show ((fun k => cond (Nat.blt k 70 || Nat.blt 89 k) (X' k) (X k)), g', XF', G', P) = _
  rw [e]
theorem code_parts {s : Int32} (hs : 0 ≤ s.toInt ∧ s.toInt ≤ 8191) : code3 (sdO s, coO s, caO s) = s := by
  obtain ⟨a, b, c⟩ := parts32 hs
  have e := (tog (parts_b hs)).2.2
  have e : (code3 (sdO s, coO s, caO s)).toInt = 4096 * (sdO s).toInt + 64 * (coO s).toInt + (caO s).toInt := e
  rw [eq32, e, a, b, c]
  clear a b c e
  omega
section SRCH
variable {K : Nat} {d : Nat → ClassId} {M : Nat → Int32} {F : Nat → Nat → Int32} {X : Nat → Int32} {XF : Nat → Nat → Int32} {G : Nat → Nat → Int64} {g gx : Nat → Int64} {P : Nat → Nat → Option Nat} {tl : va_W}
theorem searchB (hc : CR M F X XF G) (hK : 9000 ≤ K) {s : Int32} (hs : 0 ≤ s.toInt ∧ s.toInt ≤ 8191) : ∃ (now : T3) (ev fr cd cr : Int32) (g' : Nat → Int64) (X' : Nat → Int32) (gx' : Nat → Int64), fX4_search K s (M, g, F) = some (S5 M ev (code3 now) fr cd cr, g', F) ∧ fX9_init K s (X, gx, XF, G, P) = some (now, (X', gx', XF, G, P)) ∧ ok3 now ∧ fr = swV M F (code3 now) (F 0 0) ∧ X' 90 = fr ∧ X' 91 = ev ∧ (∀ k, k ≠ 20 → k ≠ 90 → k ≠ 91 → X' k = X k) := by
  have hp := parts_b hs
  have hok : ok3 (sdO s, coO s, caO s) := hp
  have hcp := code_parts hs
  obtain ⟨g1, m1⟩ := ratioM (g := g) (hc.S5 (M 39) s (M 41) (M 42) (M 43)).t (show 40 ≤ K by omega) hs hc.s.v_fq
  rw [swV_S5] at m1
  have hc0 : CR M F (mup (mup X 90 0) 91 0) XF G := hc.sx (fun k h1 h2 h3 => by rw [mup_n _ _ h3, mup_n _ _ h2])
  obtain ⟨X2, gx2, x1, x2⟩ := evalX (gx := gx) (P := P) hc0 (show 40 ≤ K by omega) hok
  rw [hcp] at x1
  have hc2 : CR M F (mup X2 90 (swV M F s (F 0 0))) XF G := hc0.sx (fun k h1 h2 h3 => by rw [mup_n _ _ h2, x2 k h1, mup_n _ _ h3])
  have e91 : mup X2 90 (swV M F s (F 0 0)) 91 = 1 := by
    rw [mup_n _ _ (by decide), x2 91 (by decide), mup_s, mup_s]
    rfl
  have hsw := sw_b M F s (F 0 0)
  have hs2 : s = oN s.toNatClampNeg := oN_of (nn32 hs.1).symm
  have hsn := nn32 hs.1
  have hcs := cS_b1 (SW M F) (swV M F s (F 0 0)) (s := s.toNatClampNeg) (by show ¬ swV M F (oN s.toNatClampNeg) (F 0 0) < _; rw [← hs2, lt32]; omega) 8192 (by omega)
  obtain ⟨now, ev, fr, cd, cr, g', X', gx', z1, z2, z3, z4, z5, z6, z7⟩ := srch_L (P := P) (show 40 ≤ K by omega) 8196 5 K 8200 (sdO s, coO s, caO s) 1 (swV M F s (F 0 0)) (M 42) (M 43) g1 gx2 (mup X2 90 (swV M F s (F 0 0))) hc2 (by omega) (by omega) (by omega) (by omega) hok (by rw [hcp]) e91 (mup_s _ _ _)
  rw [hcp] at z1
  refine ⟨now, ev, fr, cd, cr, g', X', gx', ?_, ?_, z3, z4, z5, z6, fun k h1 h2 h3 => ?_⟩
  · unfold fX4_search
    rw [nmr]
    refine (ga_t ⟨by decide, by decide⟩).trans ?_
    have e0 : mup M 40 s = S5 M (M 39) s (M 41) (M 42) (M 43) := by
      have := S5_40 M (M 39) (M 40) (M 41) (M 42) (M 43) s
      rw [S5_id] at this
      exact this
    refine (b2_e (v := swV M F s (F 0 0)) (w := (S5 M (M 39) s (M 41) (M 42) (M 43), g1, F)) ?_).trans ?_
    · show fX4_ratio K s (F 0 0) (mup M 40 s, g, F) = _
      rw [e0]; exact m1
    · rw [nmr, nmr]
      show fX4_search_L28 K K 16 (mup (mup (S5 M (M 39) s (M 41) (M 42) (M 43)) 41 (swV M F s (F 0 0))) 39 1, g1, F) = _
      rw [S5_41, S5_39]
      exact z1
  · unfold fX9_init
    rw [nmr]
    refine (b1_e (v := (sdO s, coO s, caO s)) rfl).trans ?_
    refine (b2_e x1).trans ?_
    rw [nmr]
    exact z2
  · rw [z7 k h1 h2 h3, mup_n _ _ h2, x2 k h1, mup_n _ _ h3, mup_n _ _ h3, mup_n _ _ h2]
/-- links -/
def Fk (F : Nat → Nat → Int32) (a b : Nat → Int32) : Nat → Nat → Int32 := mup (mup F 45 a) 46 b
theorem Fk_k (F : Nat → Nat → Int32) (a b a' b' : Nat → Int32) : mup (mup (Fk F a b) 45 a') 46 b' = Fk F a' b' := by
  unfold Fk
  funext k
  simp only [mup_e]
  repeat' split
  all_goals first | rfl | omega
theorem Fk_0 (F : Nat → Nat → Int32) : Fk F (F 45) (F 46) = F := by
  unfold Fk
  rw [mup_id F 45 _ rfl, mup_id F 46 _ rfl]
theorem Fk_o {F : Nat → Nat → Int32} {a b : Nat → Int32} {k : Nat} (h1 : k ≠ 45) (h2 : k ≠ 46) : Fk F a b k = F k := by
  unfold Fk
  rw [mup_n _ _ h2, mup_n _ _ h1]
theorem linkM (K : Nat) (M : Nat → Int32) (g : Nat → Int64) (F : Nat → Nat → Int32) (a b : Nat → Int32) {n : Nat} (hn : n ≤ 2) (x y : Int32) : fX4_link K x y (mup M 44 (oN n), g, Fk F a b) = some (mup M 44 (oN (n + 1)), g, Fk F (upd a n x) (upd b n y)) := by
  have i3 : ix (oN n) 3 := ixN (oNi (by omega)) (by omega)
  have e44 : mup M 44 (oN n) 44 = oN n := mup_s _ _ _
  unfold fX4_link
  show ga (ix (mup M 44 (oN n) 44) 3) (nm (mup M 44 (oN n), g, mup (Fk F a b) 45 (upd a (mup M 44 (oN n) 44).toNatClampNeg x)) _) = _
  rw [e44]
  refine (ga_t i3).trans ?_
  rw [nmr]
  show ga (ix (mup M 44 (oN n) 44) 3) (nm (mup M 44 (oN n), g, mup (mup (Fk F a b) 45 (upd a (oN n).toNatClampNeg x)) 46 (upd b (mup M 44 (oN n) 44).toNatClampNeg y)) _) = _
  rw [e44]
  refine (ga_t i3).trans ?_
  rw [nmr, nmr, Fk_k, oNn (by omega)]
  show some (mup (mup M 44 (oN n)) 44 (mup M 44 (oN n) 44 + 1), g, Fk F (upd a n x) (upd b n y)) = _
  rw [mup_mup, e44, oN_s (by omega)]
def isE (v : Int32) : Bool := decide (v = 0 ∨ v = 63)
theorem isEM (K : Nat) (v : Int32) : fX4_isEdge K v = some (isE v) := by
  unfold fX4_isEdge isE
  by_cases c : v = 0
  · rw [if_pos c, decide_eq_true (Or.inl c)]
  · rw [if_neg c]
    by_cases c2 : v = 63
    · rw [if_pos c2, decide_eq_true (Or.inr c2)]
    · rw [if_neg c2, decide_eq_false (by rintro (h | h); exact c h; exact c2 h)]
theorem isEX (K : Nat) (v : Int32) : fX9_isEnd K v = some (isE v) := by
  unfold fX9_isEnd isE
  by_cases c : v = 0
  · rw [if_pos c, decide_eq_true (Or.inl c)]
  · rw [if_neg c]
    by_cases c2 : v = 63
    · rw [if_pos c2, decide_eq_true (Or.inr c2)]
    · rw [if_neg c2, decide_eq_false (by rintro (h | h); exact c h; exact c2 h)]
end SRCH
