/-! plain law: store -/
set_option maxRecDepth 100000
theorem plcE (S : Nat → Int32) (f : Int32) (n : Nat) : ∃ p, p ≤ n ∧ (∀ i, i < p → S (206 + i) < f) ∧ (p < n → f ≤ S (206 + p)) := by
  induction n with
  | zero => exact ⟨0, Nat.le_refl _, fun i hi => absurd hi (Nat.not_lt_zero _), fun h => absurd h (Nat.lt_irrefl _)⟩
  | succ n ih =>
    obtain ⟨p, h1, h2, h3⟩ := ih
    by_cases c : p < n
    · exact ⟨p, by omega, h2, fun _ => h3 c⟩
    · have hp : p = n := by omega
      subst hp
      by_cases c2 : f ≤ S (206 + p)
      · exact ⟨p, by omega, h2, fun _ => c2⟩
      · refine ⟨p + 1, Nat.le_refl _, fun i hi => ?_, fun h => absurd h (Nat.lt_irrefl _)⟩
        by_cases c3 : i = p
        · subst c3
          rw [lt32]
          rw [le32] at c2
          omega
        · exact h2 i (by omega)
theorem lt_nle {a b : Int32} (h : a < b) : ¬ b ≤ a := by
  rw [lt32] at h
  rw [le32]
  omega
section OPS
variable {K : Nat} {d : Nat → ClassId} {M : Nat → Int32} {F : Nat → Nat → Int32} {X : Nat → Int32} {XF : Nat → Nat → Int32} {G : Nat → Nat → Int64} {g gx : Nat → Int64} {P : Nat → Nat → Option Nat} {tl : va_W}
theorem plM {n p : Nat} (hn : F 0 205 = oN n) (h16 : n ≤ 16) (hp : p ≤ n) (h2 : ∀ i, i < p → F 0 (206 + i) < F 0 0) (h3 : p < n → F 0 0 ≤ F 0 (206 + p)) (k : Nat) : ∀ (m j : Nat), j + k = p → k + 1 ≤ m → fX4_store_L11 K m (oN j) (M, g, F) = fX4_store_L48 K (oN p) (M, g, F) := by
  induction k with
  | zero =>
    intro m j hj hm
    obtain ⟨m, rfl⟩ : ∃ k, m = k + 1 := ⟨m - 1, by omega⟩
    have hj : j = p := by omega
    subst hj
    have ej : (oN j).toInt = j := oNi (by omega)
    have en : (oN n).toInt = n := oNi (by omega)
    have o1 : 206 + j < 254 := by omega
    have o2 : 206 + j < 2147483648 := by omega
    rw [fX4_store_L11]
    refine (ga_t ⟨by decide, by decide⟩).trans ?_
    show (if F 0 205 ≤ oN j then _ else _) = _
    rw [hn]
    by_cases c : n ≤ j
    · rw [if_pos (by rw [le32, ej, en]; omega)]
    · rw [if_neg (by rw [le32, ej, en]; omega)]
      have h3 := h3 (by omega)
      have e5 : (206 + oN j : Int32).toInt = (206 + j : Nat) := addN k32_206 ej o2
      refine (ga_t (ixN e5 o1)).trans ?_
      refine (ga_t ⟨by decide, by decide⟩).trans ?_
      show (if F 0 0 ≤ F 0 (206 + oN j : Int32).toNatClampNeg then _ else _) = _
      rw [nnN e5, if_pos h3]
  | succ k ih =>
    intro m j hj hm
    obtain ⟨m, rfl⟩ : ∃ k, m = k + 1 := ⟨m - 1, by omega⟩
    have ej : (oN j).toInt = j := oNi (by omega)
    have en : (oN n).toInt = n := oNi (by omega)
    have o1 : 206 + j < 254 := by omega
    have o2 : 206 + j < 2147483648 := by omega
    have o3 : j + 1 < 2147483648 := by omega
    have h2j := h2 j (by omega)
    have ih := ih m (j + 1) (by omega) (by omega)
    rw [fX4_store_L11]
    refine (ga_t ⟨by decide, by decide⟩).trans ?_
    show (if F 0 205 ≤ oN j then _ else _) = _
    rw [hn, if_neg (by rw [le32, ej, en]; omega)]
    have e5 : (206 + oN j : Int32).toInt = (206 + j : Nat) := addN k32_206 ej o2
    refine (ga_t (ixN e5 o1)).trans ?_
    refine (ga_t ⟨by decide, by decide⟩).trans ?_
    show (if F 0 0 ≤ F 0 (206 + oN j : Int32).toNatClampNeg then _ else _) = _
    rw [nnN e5, if_neg (lt_nle h2j), oN_s o3]
    exact ih
theorem plX (hnd : NDt tl) {S : Nat → Int32} {n p : Nat} (hn : X 72 = oN n) (h16 : n ≤ 16) (hp : p ≤ n) (hen : ∀ k, k < n → ∃ q, P 18 k = some q ∧ (q, (.inr (16, [.int (S (206 + k)), .int (S (222 + k)), .int (S (238 + k))]) : va_E)) ∈ tl) {f : Int32} (h2 : ∀ i, i < p → S (206 + i) < f) (h3 : p < n → f ≤ S (206 + p)) (k : Nat) : ∀ (m j : Nat), j + k = p → k + 1 ≤ m → fX0_placeOf_L2 K m f (oN j) ((X, gx, XF, G, P), tl) = some (oN p, ((X, gx, XF, G, P), tl)) := by
  have en : (X 72).toInt = n := by rw [hn]; exact oNi (by omega)
  induction k with
  | zero =>
    intro m j hj hm
    obtain ⟨m, rfl⟩ : ∃ k, m = k + 1 := ⟨m - 1, by omega⟩
    have hj : j = p := by omega
    subst hj
    have ej : (oN j).toInt = j := oNi (by omega)
    rw [fX0_placeOf_L2]
    refine (b1_e (v := X 72) rfl).trans ?_
    by_cases c : n ≤ j
    · rw [if_pos (by rw [le32, ej, en]; omega)]
    · rw [if_neg (by rw [le32, ej, en]; omega)]
      have h3 := h3 (by omega)
      obtain ⟨q, hq, he⟩ := hen j (by omega)
      have w1 : (X 72).toInt ≤ 16 := by omega
      have w2 : (j : Int) < (X 72).toInt := by omega
      refine (b1_e (jget K (mc := X 70) w1 w2 hq)).trans ?_
      refine (b1_e (entOf_of hnd he)).trans ?_
      show (if f ≤ S (206 + j) then _ else _) = _
      rw [if_pos h3]
  | succ k ih =>
    intro m j hj hm
    obtain ⟨m, rfl⟩ : ∃ k, m = k + 1 := ⟨m - 1, by omega⟩
    have ej : (oN j).toInt = j := oNi (by omega)
    have h2j := h2 j (by omega)
    have ih := ih m (j + 1) (by omega) (by omega)
    obtain ⟨q, hq, he⟩ := hen j (by omega)
    rw [fX0_placeOf_L2]
    refine (b1_e (v := X 72) rfl).trans ?_
    rw [if_neg (by rw [le32, ej, en]; omega)]
    have w1 : (X 72).toInt ≤ 16 := by omega
    have w2 : (j : Int) < (X 72).toInt := by omega
    refine (b1_e (jget K (mc := X 70) w1 w2 hq)).trans ?_
    refine (b1_e (entOf_of hnd he)).trans ?_
    show (if f ≤ S (206 + j) then _ else _) = _
    rw [if_neg (lt_nle h2j), oN_s (by omega)]
    exact ih
/-- entries moved up to make room at p -/
theorem upM (n p : Nat) (hn : n ≤ 15) (hp : p ≤ n) (k : Nat) : ∀ (m j : Nat) (F : Nat → Nat → Int32), F 0 205 = oN n → p + k = j → j ≤ n → k + 1 ≤ m → ∃ S', fX4_store_L122 K m (oN p) (oN j) (M, g, F) = fX4_store_L153 K (oN p) (M, g, mup F 0 S') ∧ S' 205 = oN (n + 1) ∧ (∀ k, k < 205 → S' k = F 0 k) ∧ ∀ B i, isB B → i < 16 → S' (B + i) = if p < i ∧ i ≤ j then F 0 (B + (i - 1)) else F 0 (B + i) := by
  induction k with
  | zero =>
    intro m j F h205 hj hjn hm
    obtain ⟨m, rfl⟩ : ∃ k, m = k + 1 := ⟨m - 1, by omega⟩
    have hj : j = p := by omega
    subst hj
    refine ⟨upd (F 0) 205 (oN (n + 1)), ?_, by rw [upd_e, if_pos rfl], fun k hk => by rw [upd_e, if_neg (by omega)], fun B i hB hi => ?_⟩
    · rw [fX4_store_L122, if_pos (by rw [le32]; exact Int.le_refl _)]
      refine (ga_t ⟨by decide, by decide⟩).trans ?_
      refine (ga_t ⟨by decide, by decide⟩).trans ?_
      rw [nmr]
      show fX4_store_L153 K (oN j) (M, g, mup F 0 (upd (F 0) 205 (F 0 205 + 1))) = _
      rw [h205, oN_s (by omega)]
    · rw [upd_e, if_neg (by rcases hB with rfl | rfl | rfl <;> omega), if_neg (by omega)]
  | succ k ih =>
    intro m j F h205 hj hjn hm
    obtain ⟨m, rfl⟩ : ∃ k, m = k + 1 := ⟨m - 1, by omega⟩
    have e1 : oN j - 1 = oN (j - 1) := oN_of (sub1N (by rw [oNi (by omega)]; omega))
    have e2 : oN j + -1 = oN (j - 1) := by
      apply oN_of
      have ej : (oN j).toInt = j := oNi (by omega)
      rw [a32, ej, k32_m1] <;> (try rw [ej, k32_m1]) <;> omega
    obtain ⟨S', a1, a2, a3, a4⟩ := ih m (j - 1) (mup F 0 (mv (F 0) (j - 1) j)) (by rw [mup_s, mv_o _ (by omega)]; exact h205) (by omega) (by omega) (by omega)
    rw [mup_mup] at a1
    refine ⟨S', ?_, a2, fun k hk => ?_, fun B i hB hi => ?_⟩
    · rw [fX4_store_L122, if_neg (by rw [le32, oNi (by omega), oNi (by omega)]; omega), e1]
      refine (b1_e (mvM K M g F (by omega) (by omega))).trans ?_
      rw [e2]
      exact a1
    · rw [a3 k hk, mup_s, mv_o _ (by omega)]
    · rw [a4 B i hB hi, mup_s]
      by_cases c1 : p < i ∧ i ≤ j - 1
      · rw [if_pos c1, if_pos (by omega), mv_e _ hB (by omega) (by omega), if_neg (by omega)]
      · rw [if_neg c1, mv_e _ hB (by omega) hi]
        by_cases c2 : i = j
        · rw [if_pos c2, if_pos (by omega), c2]
        · rw [if_neg c2, if_neg (by omega)]
/-- an entry written at p -/
def ent3 (S : Nat → Int32) (p : Nat) (a b c : Int32) : Nat → Int32 := upd (upd (upd S (206 + p) a) (222 + p) b) (238 + p) c
theorem ent3_e (S : Nat → Int32) (p : Nat) (a b c : Int32) {B i : Nat} (hB : isB B) (hp : p < 16) (hi : i < 16) : ent3 S p a b c (B + i) = if i = p then (if B = 206 then a else if B = 222 then b else c) else S (B + i) := by
  unfold ent3
  rw [upd_e, upd_e, upd_e]
  rcases hB with rfl | rfl | rfl
  · rw [if_neg (by omega), if_neg (by omega), if_pos (rfl : (206 : Nat) = 206)]
    by_cases c : i = p
    · rw [if_pos (by omega), if_pos c]
    · rw [if_neg (by omega), if_neg c]
  · rw [if_neg (by omega), if_neg (show ¬ (222 : Nat) = 206 by decide), if_pos (rfl : (222 : Nat) = 222)]
    by_cases c : i = p
    · rw [if_pos (by omega), if_pos c]
    · rw [if_neg (by omega), if_neg (by omega), if_neg c]
  · rw [if_neg (show ¬ (238 : Nat) = 206 by decide), if_neg (show ¬ (238 : Nat) = 222 by decide)]
    by_cases c : i = p
    · rw [if_pos (by omega), if_pos c]
    · rw [if_neg (by omega), if_neg (by omega), if_neg (by omega), if_neg c]
theorem ent3_o (S : Nat → Int32) (p : Nat) (a b c : Int32) {k : Nat} (hk : k ≤ 205) : ent3 S p a b c k = S k := by
  unfold ent3
  rw [upd_e, upd_e, upd_e, if_neg (by omega), if_neg (by omega), if_neg (by omega)]
theorem swV0 (M : Nat → Int32) (F : Nat → Nat → Int32) (S : Nat → Int32) (s f : Int32) : swV M (mup F 0 S) s f = swV M F s f := rfl
theorem CR.mem0 (h : CR M F X XF G) {S : Nat → Int32} (e : ∀ k, k < 205 → S k = F 0 k) : CR M (mup F 0 S) X XF G :=
  CR.mk (h.t.cg (fun k _ _ => rfl) (fun k _ _ => mup_n _ _ (by omega)) (fun k _ _ => rfl) (fun k _ _ => rfl)) (by rw [mup_s]; exact h.s.cg e) h.ld
theorem st153 (h : CR M F X XF G) (hK : 40 ≤ K) {p : Nat} (hp : p < 16) : ∃ g1, fX4_store_L153 K (oN p) (M, g, F) = some (oN p, (M, g1, mup F 0 (ent3 (F 0) p (F 0 0) (F 0 1) (swV M F (F 0 1) (F 0 0))))) := by
  have ep : (oN p).toInt = p := oNi (by omega)
  have o : ∀ j : Nat, j ≤ 238 → j + p < 254 ∧ j + p < 2147483648 := fun j h1 => by omega
  have u1 : upd (F 0) (206 + p) (F 0 0) 1 = F 0 1 := by rw [upd_e, if_neg (by omega)]
  have s0 : upd (upd (F 0) (206 + p) (F 0 0)) (222 + p) (F 0 1) 0 = F 0 0 := by rw [upd_e, if_neg (by omega), upd_e, if_neg (by omega)]
  have s1 : upd (upd (F 0) (206 + p) (F 0 0)) (222 + p) (F 0 1) 1 = F 0 1 := by rw [upd_e, if_neg (by omega), upd_e, if_neg (by omega)]
  obtain ⟨g1, p1⟩ := presM (g := g) (h.mem0 (S := upd (upd (F 0) (206 + p) (F 0 0)) (222 + p) (F 0 1)) (fun k hk => by rw [upd_e, if_neg (by omega), upd_e, if_neg (by omega)])) hK
  rw [mup_s, swV0, s0, s1] at p1
  have f1 : (206 + oN p : Int32).toInt = (206 + p : Nat) := addN k32_206 ep (o 206 (by decide)).2
  have f2 : (222 + oN p : Int32).toInt = (222 + p : Nat) := addN k32_222 ep (o 222 (by decide)).2
  have f3 : (238 + oN p : Int32).toInt = (238 + p : Nat) := addN k32_238 ep (o 238 (by decide)).2
  refine ⟨g1, ?_⟩
  unfold fX4_store_L153
  refine (ga_t ⟨by decide, by decide⟩).trans ?_
  refine (ga_t (ixN f1 (o 206 (by decide)).1)).trans ?_
  rw [nmr, nnN f1]
  refine (ga_t ⟨by decide, by decide⟩).trans ?_
  refine (ga_t (ixN f2 (o 222 (by decide)).1)).trans ?_
  rw [nmr, nnN f2]
  refine (b2_e (v := swV M F (F 0 1) (F 0 0)) (w := (M, g1, mup F 0 (upd (upd (F 0) (206 + p) (F 0 0)) (222 + p) (F 0 1)))) ?_).trans ?_
  · show fX4_present K (M, g, mup (mup F 0 (upd (F 0) (206 + p) (F 0 0))) 0 (upd (mup F 0 (upd (F 0) (206 + p) (F 0 0)) 0) (222 + p) (mup F 0 (upd (F 0) (206 + p) (F 0 0)) 0 1))) = _
    rw [mup_mup, mup_s, u1]
    exact p1
  · refine (ga_t (ixN f3 (o 238 (by decide)).1)).trans ?_
    rw [nmr, nnN f3]
    show some (oN p, M, g1, mup (mup F 0 (upd (upd (F 0) (206 + p) (F 0 0)) (222 + p) (F 0 1))) 0 (upd (mup F 0 (upd (upd (F 0) (206 + p) (F 0 0)) (222 + p) (F 0 1)) 0) (238 + p) (swV M F (F 0 1) (F 0 0)))) = _
    rw [mup_mup, mup_s]
    rfl
noncomputable def insT (K : Nat) (r_7 : Int32) (ζ : XT) (u : UU) : Option (Int32 × XT) :=
  ask u fun q_45 u =>
  b1 (fX0_here K ζ.1) fun ζ_47 =>
  nm ((xmrg ζ.1 ζ_47, ζ.2)) fun ζ_48 =>
  b2 (fX3_swr K ζ_48.1) fun r_50 ζ_51 =>
  nm ((xmrg ζ_48.1 ζ_51, ζ_48.2)) fun ζ_52 =>
  b1 (fX17_init K (ζ.1.1 60) (ζ.1.1 61) r_50 ((0 : Int32), (0 : Int32), (0 : Int32))) fun ζ_54 =>
  gaP (∀ j q, ζ_52.1.2.2.2.2 18 j = some q → ∃ fs, (q, (.inr (16, fs) : va_E)) ∈ ζ_52.2) <|
  b1 (fJ14_add_3 K r_7 q_45 (ζ_52.1.1 70, ζ_52.1.1 72, ζ_52.1.2.2.2.2 18)) fun ζ_58 =>
  nm ((xP (xI (xI ζ_52.1 70 ζ_58.1) 72 ζ_58.2.1) 18 ζ_58.2.2, ζ_52.2)) fun ζ_59 =>
  nm ((ζ_59.1, [(q_45, .inr (16, [.int ζ_54.1, .int ζ_54.2.1, .int ζ_54.2.2]))] ++ ζ_59.2)) fun ζ_60 =>
  some (r_7, ζ_60)
noncomputable def setT (K : Nat) (r_7 : Int32) (ζ : XT) (u : UU) : Option (Int32 × XT) :=
  ask u fun q_45 u =>
  b1 (fX0_here K ζ.1) fun ζ_47 =>
  nm ((xmrg ζ.1 ζ_47, ζ.2)) fun ζ_48 =>
  b2 (fX3_swr K ζ_48.1) fun r_50 ζ_51 =>
  nm ((xmrg ζ_48.1 ζ_51, ζ_48.2)) fun ζ_52 =>
  b1 (fX17_init K (ζ.1.1 60) (ζ.1.1 61) r_50 ((0 : Int32), (0 : Int32), (0 : Int32))) fun ζ_54 =>
  b2 (fJ14_set K r_7 q_45 (ζ_52.1.1 70, ζ_52.1.1 72, ζ_52.1.2.2.2.2 18)) fun r_62 ζ_63 =>
  nm ((xP (xI (xI ζ_52.1 70 ζ_63.1) 72 ζ_63.2.1) 18 ζ_63.2.2, ζ_52.2)) fun ζ_64 =>
  nm ((ζ_64.1, [(q_45, .inr (16, [.int ζ_54.1, .int ζ_54.2.1, .int ζ_54.2.2]))] ++ ζ_64.2)) fun ζ_65 =>
  some (r_7, ζ_65)
theorem jadd3 (K : Nat) {mc : Int32} {L : Nat → Option Nat} {n p q : Nat} (hn : n ≤ 15) (hp : p ≤ n) : ∃ L', fJ14_add_3 K (oN p) q (mc, oN n, L) = some (mc + 1, oN (n + 1), L') ∧ ∀ k, L' k = if k = p then some q else if p < k ∧ k ≤ n then L (k - 1) else L k := by
  have ep : (oN p).toInt = p := oNi (by omega)
  have en : (oN n).toInt = n := oNi (by omega)
  have e3 : oN n - oN p = oN (n - p) := by
    apply oN_of
    rw [s32, en, ep] <;> (try rw [en, ep]) <;> omega
  have i1 : ix (oN p) 16 := ixN ep (by omega)
  have g1 : (0 : Int) ≤ (oN (p + 1)).toInt := by rw [oNi (by omega)]; omega
  have g2 : (0 : Int) ≤ (oN p).toInt := by rw [ep]; omega
  have g3 : (0 : Int) ≤ (oN (n - p)).toInt := by rw [oNi (by omega)]; omega
  refine ⟨va_up (va_cpy L L p (p + 1) (n - p)) p (some q), ?_, fun k => ?_⟩
  · unfold fJ14_add_3
    refine (b1_e (v := ()) ?_).trans ?_
    · unfold fJ14_rangeCheckForAdd
      rw [if_neg (show ¬ oN n < oN p by rw [lt32, en, ep]; omega), if_pos (show (0 : Int32) ≤ oN p by rw [le32]; exact g2)]
    · rw [if_neg (show ¬ oN n = 16 by rw [eq32, en, k32_16]; omega)]
      show ga (0 ≤ (oN p).toInt ∧ 0 ≤ (oN p + 1).toInt ∧ 0 ≤ (oN n - oN p).toInt ∧ (oN p).toNatClampNeg + (oN n - oN p).toNatClampNeg ≤ 16 ∧ (oN p + 1).toNatClampNeg + (oN n - oN p).toNatClampNeg ≤ 16) (ga (ix (oN p) 16) (some (mc + 1, oN n + 1, va_up (va_cpy L L (oN p).toNatClampNeg (oN p + 1).toNatClampNeg (oN n - oN p).toNatClampNeg) (oN p).toNatClampNeg (some q)))) = _
      rw [e3, oN_s (show p + 1 < 2147483648 by omega), oN_s (show n + 1 < 2147483648 by omega), oNn (show p + 1 < 2147483648 by omega), oNn (show p < 2147483648 by omega), oNn (show n - p < 2147483648 by omega)]
      refine (ga_t ⟨g2, g1, g3, by omega, by omega⟩).trans ?_
      exact ga_t i1
  · rw [vau_e, cpy_e]
    by_cases c : k = p
    · rw [if_pos c, if_pos c]
    · rw [if_neg c, if_neg c]
      by_cases c2 : p < k ∧ k ≤ n
      · rw [if_pos (by omega), if_pos c2]
        congr 1
        omega
      · rw [if_neg (by omega), if_neg c2]
theorem jset (K : Nat) {mc : Int32} {L : Nat → Option Nat} {n p q q0 : Nat} (hn : n ≤ 16) (hp : p < n) (hq : L p = some q0) : fJ14_set K (oN p) q (mc, oN n, L) = some (q0, mc, oN n, va_up L p (some q)) := by
  have ep : (oN p).toInt = p := oNi (by omega)
  have en : (oN n).toInt = n := oNi (by omega)
  have i1 : ix (oN p) 16 := ixN ep (by omega)
  have o0 : (0 : Int) ≤ (oN p).toInt ∧ (oN p).toInt < (oN n).toInt := by rw [ep, en]; omega
  unfold fJ14_set
  refine (b1_e (jck K (k := oN p) (n := oN n) o0)).trans ?_
  refine (b1_e (v := q0) ?_).trans ?_
  · unfold fJ14_elementData
    refine (ga_t i1).trans ?_
    exact (b1_e (show L (oN p).toNatClampNeg = some q0 by rw [nnN ep]; exact hq)).trans rfl
  · refine (ga_t i1).trans ?_
    rw [nnN ep]
theorem ins_ok (h : FR d M F X XF G P tl) (hK : 40 ≤ K) {n p : Nat} (hn : F 0 205 = oN n) (h15 : n ≤ 15) (hp : p ≤ n) (u : UU) {S' : Nat → Int32} (s2 : S' 205 = oN (n + 1)) (s3 : ∀ k, k < 205 → S' k = F 0 k) (s4 : ∀ B i, isB B → i < 16 → S' (B + i) = if p < i ∧ i ≤ n then F 0 (B + (i - 1)) else F 0 (B + i)) : ∃ y : XT, insT K (oN p) ((X, gx, XF, G, P), tl) u = some (oN p, y) ∧ FR d M (mup F 0 (ent3 S' p (F 0 0) (F 0 1) (swV M F (F 0 1) (F 0 0)))) y.1.1 y.1.2.2.1 y.1.2.2.2.1 y.1.2.2.2.2 y.2 := by
  obtain ⟨n1, f1, f2, f3, f4, f5, -⟩ := h.mem
  have hn1 : n1 = n := by
    have : (oN n1).toInt = (oN n).toInt := by rw [← f1, ← hn]
    rw [oNi (by omega), oNi (by omega)] at this
    omega
  subst hn1
  obtain ⟨X2, gx2, b1', b2', b3'⟩ := here' (gx := gx) (P := P) h.ld hK
  have x2 : xmrg (X, gx, XF, G, P) (X2, gx2, XF, G, P) = (X2, gx2, XF, G, P) := xmrg_e (fun k hk => b2' k (by omega))
  obtain ⟨L', l1, l2⟩ := jadd3 K (mc := X2 70) (L := P 18) (q := u 0) h15 hp
  have e72 : X2 72 = oN n1 := by rw [b2' 72 (by decide)]; exact f3
  have hfr := (h.scr b2').setMem (S' := ent3 S' p (F 0 0) (F 0 1) (swV M F (F 0 1) (F 0 0))) (n := n1) (n' := n1 + 1) (L' := L') (nw := [(u 0, .inr (16, [.int (F 0 0), .int (F 0 1), .int (swV M F (F 0 1) (F 0 0))]))]) (mc := X2 70 + 1) f1 (by omega) (fun k hk => by rw [ent3_o _ _ _ _ _ (by omega)]; exact s3 k hk) (by rw [ent3_o _ _ _ _ _ (by omega)]; exact s2) (by omega) (fun k hk => by
    have t6 := ent3_e S' p (F 0 0) (F 0 1) (swV M F (F 0 1) (F 0 0)) (B := 206) (i := k) (Or.inl rfl) (by omega) (by omega)
    have t7 := ent3_e S' p (F 0 0) (F 0 1) (swV M F (F 0 1) (F 0 0)) (B := 222) (i := k) (Or.inr (Or.inl rfl)) (by omega) (by omega)
    have t8 := ent3_e S' p (F 0 0) (F 0 1) (swV M F (F 0 1) (F 0 0)) (B := 238) (i := k) (Or.inr (Or.inr rfl)) (by omega) (by omega)
    have l2k := l2 k
    by_cases c : k = p
    · right
      rw [if_pos c] at l2k t6 t7 t8
      rw [if_pos rfl] at t6
      rw [if_neg (by decide), if_pos rfl] at t7
      rw [if_neg (by decide), if_neg (by decide)] at t8
      rw [t6, t7, t8]
      exact ⟨⟨u 0, l2k, List.mem_cons_self ..⟩, h.ld.s.v_fq, h.ld.s.v_st⟩
    · left
      rw [if_neg c] at l2k t6 t7 t8
      have s6 := s4 206 k (Or.inl rfl) (by omega)
      have s7 := s4 222 k (Or.inr (Or.inl rfl)) (by omega)
      have s8 := s4 238 k (Or.inr (Or.inr rfl)) (by omega)
      by_cases c2 : p < k ∧ k ≤ n1
      · rw [if_pos c2] at l2k s6 s7 s8
        exact ⟨k - 1, by omega, l2k, t6.trans s6, t7.trans s7, t8.trans s8⟩
      · rw [if_neg c2] at l2k s6 s7 s8
        exact ⟨k, by omega, l2k, t6.trans s6, t7.trans s7, t8.trans s8⟩) (fun k hk => by
    rw [l2 k, if_neg (by omega), if_neg (by omega)]
    exact f5 k (by omega))
  refine ⟨((mup (mup X2 70 (X2 70 + 1)) 72 (oN (n1 + 1)), gx2, XF, G, mup P 18 L'), [(u 0, .inr (16, [.int (F 0 0), .int (F 0 1), .int (swV M F (F 0 1) (F 0 0))]))] ++ tl), ?_, hfr⟩
  unfold insT ask
  refine (b1_e b1').trans ?_
  rw [nmr, x2]
  refine (b2_e (swr' hK b3')).trans ?_
  rw [nmr, xmrg_r]
  refine (b1_e rfl).trans ?_
  refine (gaP_t ?_).trans ?_
  · intro j q0 hj
    have hjn : j < n1 := by
      refine Nat.lt_of_not_le fun hle => ?_
      have := f5 j hle
      rw [show ((X2, gx2, XF, G, P), tl).1.2.2.2.2 18 j = P 18 j from rfl, this] at hj
      cases hj
    obtain ⟨q1, g1, g2⟩ := f4 j hjn
    have : q1 = q0 := Option.some.inj (g1.symm.trans hj)
    subst this
    exact ⟨_, g2⟩
  · refine (b1_e (by show fJ14_add_3 K (oN p) (u 0) (X2 70, X2 72, P 18) = _; rw [e72]; exact l1)).trans ?_
    rw [nmr, nmr]
    show some (oN p, ((mup (mup X2 70 (X2 70 + 1)) 72 (oN (n1 + 1)), gx2, XF, G, mup P 18 L'), [(u 0, .inr (16, [.int (X 60), .int (X 61), .int (swV M F (F 0 1) (F 0 0))]))] ++ tl)) = _
    rw [h.ld.s.fq, h.ld.s.st]
theorem set_ok (h : FR d M F X XF G P tl) (hK : 40 ≤ K) {n p : Nat} (hn : F 0 205 = oN n) (h16 : n ≤ 16) (hp : p < n) (u : UU) : ∃ y : XT, setT K (oN p) ((X, gx, XF, G, P), tl) u = some (oN p, y) ∧ FR d M (mup F 0 (ent3 (F 0) p (F 0 0) (F 0 1) (swV M F (F 0 1) (F 0 0)))) y.1.1 y.1.2.2.1 y.1.2.2.2.1 y.1.2.2.2.2 y.2 := by
  obtain ⟨n1, f1, f2, f3, f4, f5, -⟩ := h.mem
  have hn1 : n1 = n := by
    have : (oN n1).toInt = (oN n).toInt := by rw [← f1, ← hn]
    rw [oNi (by omega), oNi (by omega)] at this
    omega
  subst hn1
  obtain ⟨X2, gx2, b1', b2', b3'⟩ := here' (gx := gx) (P := P) h.ld hK
  have x2 : xmrg (X, gx, XF, G, P) (X2, gx2, XF, G, P) = (X2, gx2, XF, G, P) := xmrg_e (fun k hk => b2' k (by omega))
  obtain ⟨q0, hq0, -⟩ := f4 p hp
  have l1 := jset K (mc := X2 70) (L := P 18) (q := u 0) h16 hp hq0
  have e72 : X2 72 = oN n1 := by rw [b2' 72 (by decide)]; exact f3
  have hfr := (h.scr b2').setMem (S' := ent3 (F 0) p (F 0 0) (F 0 1) (swV M F (F 0 1) (F 0 0))) (n := n1) (n' := n1) (L' := va_up (P 18) p (some (u 0))) (nw := [(u 0, .inr (16, [.int (F 0 0), .int (F 0 1), .int (swV M F (F 0 1) (F 0 0))]))]) (mc := X2 70) f1 (by omega) (fun k hk => by rw [ent3_o _ _ _ _ _ (by omega)]) (by rw [ent3_o _ _ _ _ _ (by omega)]; exact f1) (by omega) (fun k hk => by
    have t6 := ent3_e (F 0) p (F 0 0) (F 0 1) (swV M F (F 0 1) (F 0 0)) (B := 206) (i := k) (Or.inl rfl) (by omega) (by omega)
    have t7 := ent3_e (F 0) p (F 0 0) (F 0 1) (swV M F (F 0 1) (F 0 0)) (B := 222) (i := k) (Or.inr (Or.inl rfl)) (by omega) (by omega)
    have t8 := ent3_e (F 0) p (F 0 0) (F 0 1) (swV M F (F 0 1) (F 0 0)) (B := 238) (i := k) (Or.inr (Or.inr rfl)) (by omega) (by omega)
    have l2k := vau_e (P 18) p (some (u 0)) k
    by_cases c : k = p
    · right
      rw [if_pos c] at l2k t6 t7 t8
      rw [if_pos rfl] at t6
      rw [if_neg (by decide), if_pos rfl] at t7
      rw [if_neg (by decide), if_neg (by decide)] at t8
      rw [t6, t7, t8]
      exact ⟨⟨u 0, l2k, List.mem_cons_self ..⟩, h.ld.s.v_fq, h.ld.s.v_st⟩
    · left
      rw [if_neg c] at l2k t6 t7 t8
      exact ⟨k, hk, l2k, t6, t7, t8⟩) (fun k hk => by
    rw [vau_e, if_neg (by omega)]
    exact f5 k (by omega))
  refine ⟨((mup (mup X2 70 (X2 70)) 72 (oN n1), gx2, XF, G, mup P 18 (va_up (P 18) p (some (u 0)))), [(u 0, .inr (16, [.int (F 0 0), .int (F 0 1), .int (swV M F (F 0 1) (F 0 0))]))] ++ tl), ?_, hfr⟩
  unfold setT ask
  refine (b1_e b1').trans ?_
  rw [nmr, x2]
  refine (b2_e (swr' hK b3')).trans ?_
  rw [nmr, xmrg_r]
  refine (b1_e rfl).trans ?_
  refine (b2_e (by show fJ14_set K (oN p) (u 0) (X2 70, X2 72, P 18) = _; rw [e72]; exact l1)).trans ?_
  rw [nmr, nmr]
  show some (oN p, ((mup (mup X2 70 (X2 70)) 72 (oN n1), gx2, XF, G, mup P 18 (va_up (P 18) p (some (u 0)))), [(u 0, .inr (16, [.int (X 60), .int (X 61), .int (swV M F (F 0 1) (F 0 0))]))] ++ tl)) = _
  rw [h.ld.s.fq, h.ld.s.st]
end OPS
