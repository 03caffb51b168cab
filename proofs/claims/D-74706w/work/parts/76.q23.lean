/-! plain law: the suitable entry -/
set_option maxRecDepth 100000
theorem neg0 (v : Int32) : -v = 0 - v := by rw [Int32.zero_sub]
def abI (v : Int32) : Int32 := if 0 ≤ v then v else 0 - v
section SUIT
variable {K : Nat} {d : Nat → ClassId} {M : Nat → Int32} {F : Nat → Nat → Int32} {X : Nat → Int32} {XF : Nat → Nat → Int32} {G : Nat → Nat → Int64} {g gx : Nat → Int64} {P : Nat → Nat → Option Nat} {tl : va_W}
abbrev dsV (F : Nat → Nat → Int32) (j : Nat) : Int32 := abI (F 0 (206 + j) - F 0 0)
/-- whether entry j is of the present band -/
abbrev suB (M : Nat → Int32) (F : Nat → Nat → Int32) (j : Nat) : Prop := 0 ≤ bandV M F (F 0 0) ∧ bandV M F (F 0 (206 + j)) = bandV M F (F 0 0)
theorem su1M (hc : CR M F X XF G) (hK : 40 ≤ K) {n j : Nat} (hn : F 0 205 = oN n) (h16 : n ≤ 16) (hj : j < n) (m : Nat) (b nr : Int32) : fX4_suitable_L18 K (m + 1) (bandV M F (F 0 0)) b nr (oN j) (M, g, F) = if suB M F j ∧ (b < 0 ∨ ¬ nr ≤ dsV F j) then fX4_suitable_L18 K m (bandV M F (F 0 0)) (oN j) (dsV F j) (oN (j + 1)) (M, g, F) else fX4_suitable_L18 K m (bandV M F (F 0 0)) b nr (oN (j + 1)) (M, g, F) := by
  have ej : (oN j).toInt = j := oNi (by omega)
  have en : (oN n).toInt = n := oNi (by omega)
  have o1 : 206 + j < 254 := by omega
  have o2 : 206 + j < 2147483648 := by omega
  have o3 : j + 1 < 2147483648 := by omega
  have nle : ¬ oN n ≤ oN j := by rw [le32, ej, en]; omega
  have e5 : (206 + oN j : Int32).toInt = (206 + j : Nat) := addN k32_206 ej o2
  have h64 : ∀ v, v = dsV F j → fX4_suitable_L64 K (fX4_suitable_L18 K m) v (bandV M F (F 0 0)) b nr (oN j) (M, g, F) = if suB M F j ∧ (b < 0 ∨ ¬ nr ≤ dsV F j) then fX4_suitable_L18 K m (bandV M F (F 0 0)) (oN j) (dsV F j) (oN (j + 1)) (M, g, F) else fX4_suitable_L18 K m (bandV M F (F 0 0)) b nr (oN (j + 1)) (M, g, F) := by
    intro v hv
    subst hv
    unfold fX4_suitable_L64
    by_cases c : bandV M F (F 0 0) < 0
    · rw [if_pos c, if_neg (show ¬ (suB M F j ∧ _) from fun h => by have := h.1.1; rw [le32] at this; rw [lt32] at c; rw [k32_0] at this c; omega)]
      unfold fX4_suitable_L93 fX4_suitable_L94
      rw [if_pos rfl, oN_s o3]
    · rw [if_neg c]
      have c' : 0 ≤ bandV M F (F 0 0) := by rw [le32, k32_0]; rw [lt32, k32_0] at c; omega
      refine (ga_t (ixN e5 o1)).trans ?_
      refine (b2_e (v := bandV M F (F 0 (206 + j))) (w := (M, g, F)) (by show fX4_band K (F 0 (206 + oN j : Int32).toNatClampNeg) (M, g, F) = _; rw [nnN e5]; exact bandM hc hK _)).trans ?_
      by_cases c2 : bandV M F (F 0 (206 + j)) = bandV M F (F 0 0)
      · rw [if_pos c2]
        unfold fX4_suitable_L94 fX4_suitable_L111
        rw [if_neg (by decide)]
        by_cases c3 : b < 0
        · rw [if_pos c3, if_pos ⟨⟨c', c2⟩, Or.inl c3⟩, oN_s o3]
        · rw [if_neg c3]
          by_cases c4 : nr ≤ dsV F j
          · rw [if_pos c4, if_neg (fun h => by rcases h.2 with h | h; exact c3 h; exact h c4), oN_s o3]
          · rw [if_neg c4, if_pos ⟨⟨c', c2⟩, Or.inr c4⟩, oN_s o3]
      · rw [if_neg c2, if_neg (fun h => c2 h.1.2)]
        unfold fX4_suitable_L93 fX4_suitable_L94
        rw [if_pos rfl, oN_s o3]
  rw [fX4_suitable_L18]
  refine (ga_t ⟨by decide, by decide⟩).trans ?_
  show (if F 0 205 ≤ oN j then _ else _) = _
  rw [hn, if_neg nle]
  refine (ga_t (ixN e5 o1)).trans ?_
  refine (ga_t ⟨by decide, by decide⟩).trans ?_
  rw [nmr]
  show (if 0 ≤ F 0 (206 + oN j : Int32).toNatClampNeg - F 0 0 then fX4_suitable_L64 K (fX4_suitable_L18 K m) (F 0 (206 + oN j : Int32).toNatClampNeg - F 0 0) (bandV M F (F 0 0)) b nr (oN j) (M, g, F) else fX4_suitable_L64 K (fX4_suitable_L18 K m) (-(F 0 (206 + oN j : Int32).toNatClampNeg - F 0 0)) (bandV M F (F 0 0)) b nr (oN j) (M, g, F)) = _
  rw [nnN e5]
  by_cases c : 0 ≤ F 0 (206 + j) - F 0 0
  · rw [if_pos c]
    exact h64 _ (by show _ = abI _; unfold abI; rw [if_pos c])
  · rw [if_neg c]
    exact h64 _ (by show _ = abI _; unfold abI; rw [if_neg c, neg0])
theorem m1c : ((-1 : Int32)) = -1 := rfl
theorem distX (hc : CR M F X XF G) (hnd : NDt tl) {n j : Nat} (h72 : X 72 = oN n) (h16 : n ≤ 16) (hj : j < n) {q : Nat} (hq : P 18 j = some q) (he : (q, (.inr (16, [.int (F 0 (206 + j)), .int (F 0 (222 + j)), .int (F 0 (238 + j))]) : va_E)) ∈ tl) : fX0_distanceTo K (oN j) ((X, gx, XF, G, P), tl) = some (dsV F j, ((X, gx, XF, G, P), tl)) := by
  have en : (X 72).toInt = n := by rw [h72]; exact oNi (by omega)
  have w1 : (X 72).toInt ≤ 16 := by omega
  have w2 : (j : Int) < (X 72).toInt := by omega
  unfold fX0_distanceTo
  refine (b1_e (jget K (mc := X 70) w1 w2 hq)).trans ?_
  refine (b1_e (entOf_of hnd he)).trans ?_
  rw [nmr]
  show some ((if 0 ≤ F 0 (206 + j) - X 60 then F 0 (206 + j) - X 60 else 0 - (F 0 (206 + j) - X 60)), _) = _
  rw [hc.s.fq]
  rfl
theorem su1X (hc : CR M F X XF G) (hK : 40 ≤ K) (hnd : NDt tl) {n j : Nat} (h72 : X 72 = oN n) (h16 : n ≤ 16) (hen : ∀ k, k < n → ∃ q, P 18 k = some q ∧ (q, (.inr (16, [.int (F 0 (206 + k)), .int (F 0 (222 + k)), .int (F 0 (238 + k))]) : va_E)) ∈ tl) (hj : j < n) (m : Nat) (b nr : Int32) (hb : b = -1 ∨ ∃ p, p < n ∧ b = oN p ∧ nr = dsV F p) (u : UU) : fX0_suitable_L4 K d (m + 1) b (oN j) u ((X, gx, XF, G, P), tl) = if suB M F j ∧ (b < 0 ∨ ¬ nr ≤ dsV F j) then fX0_suitable_L4 K d m (oN j) (oN (j + 1)) u ((X, gx, XF, G, P), tl) else fX0_suitable_L4 K d m b (oN (j + 1)) u ((X, gx, XF, G, P), tl) := by
  have ej : (oN j).toInt = j := oNi (by omega)
  have en : (X 72).toInt = n := by rw [h72]; exact oNi (by omega)
  have o3 : j + 1 < 2147483648 := by omega
  have w1 : (X 72).toInt ≤ 16 := by omega
  have w2 : (j : Int) < (X 72).toInt := by omega
  obtain ⟨q, hq, he⟩ := hen j hj
  have hbn : bandV M F (F 0 0) = -2 ∨ 0 ≤ bandV M F (F 0 0) := by
    rcases bandV_c hc (F 0 0) with h | h
    · exact Or.inl h
    · right; rw [le32, k32_0]; exact h.1
  have hsu : ∀ fs : Int32 × Int32 × Int32, fs.1 = F 0 (206 + j) → fX0_isSuitable K q fs ((X, gx, XF, G, P), tl) = some (decide (suB M F j), ((X, gx, XF, G, P), tl)) := by
    intro fs hfs
    unfold fX0_isSuitable
    refine (b1_e (v := bandV M F (F 0 0)) (by show fX6_bandOf K (X 60) (X, gx, XF, G, P) = _; rw [hc.s.fq]; exact bandX hc hK _)).trans ?_
    rcases hbn with h | h
    · rw [if_pos h, decide_eq_false (fun q => by have := q.1; rw [h] at this; exact absurd this (by decide))]
    · rw [if_neg (fun q => by rw [q] at h; exact absurd h (by decide))]
      refine (b1_e (v := bandV M F (F 0 (206 + j))) (by rw [hfs]; exact bandX hc hK _)).trans ?_
      by_cases c : bandV M F (F 0 (206 + j)) = bandV M F (F 0 0)
      · rw [if_pos c, decide_eq_true ⟨h, c⟩]
      · rw [if_neg c, decide_eq_false (fun q => c q.2)]
  rw [fX0_suitable_L4]
  refine (b1_e (v := X 72) rfl).trans ?_
  rw [if_neg (by rw [le32, ej, en]; omega)]
  refine (b1_e (jget K (mc := X 70) w1 w2 hq)).trans ?_
  refine (b1_e (entOf_of hnd he)).trans ?_
  refine (b2_e (hsu _ rfl)).trans ?_
  by_cases c : suB M F j
  · rw [if_pos (decide_eq_true c)]
    rcases hb with hb | ⟨p, hp, hb, hnr⟩
    · rw [if_pos hb, if_pos ⟨c, Or.inl (by rw [hb]; decide)⟩, oN_s o3]
    · have ep : (oN p).toInt = p := oNi (by omega)
      have nb : ¬ b < 0 := by rw [hb, lt32, ep, k32_0]; omega
      have nb1 : ¬ b = -1 := by rw [hb, eq32, ep]; show ¬ (p : Int) = -1; omega
      obtain ⟨q2, hq2, he2⟩ := hen p hp
      rw [if_neg nb1]
      refine (b2_e (distX hc hnd h72 h16 hj hq he)).trans ?_
      refine (b2_e (v := dsV F p) (w := ((X, gx, XF, G, P), tl)) (by rw [hb]; exact distX hc hnd h72 h16 hp hq2 he2)).trans ?_
      rw [← hnr]
      by_cases c2 : nr ≤ dsV F j
      · rw [if_pos c2, if_neg (fun h => by rcases h.2 with h | h; exact nb h; exact h c2), oN_s o3]
      · rw [if_neg c2, if_pos ⟨c, Or.inr c2⟩, oN_s o3]
  · rw [if_neg (by rw [decide_eq_false c]; decide), if_neg (fun h => c h.1), oN_s o3]
theorem su_L (hc : CR M F X XF G) (hK : 40 ≤ K) (hnd : NDt tl) {n : Nat} (hn : F 0 205 = oN n) (h72 : X 72 = oN n) (h16 : n ≤ 16) (hen : ∀ k, k < n → ∃ q, P 18 k = some q ∧ (q, (.inr (16, [.int (F 0 (206 + k)), .int (F 0 (222 + k)), .int (F 0 (238 + k))]) : va_E)) ∈ tl) (k : Nat) : ∀ (j e1 e2 : Nat) (b nr : Int32), j + k = n → (b = -1 ∨ ∃ p, p < n ∧ b = oN p ∧ nr = dsV F p) → ∃ r, (r = -1 ∨ ∃ p, p < n ∧ r = oN p) ∧ fX4_suitable_L18 K (k + e1 + 1) (bandV M F (F 0 0)) b nr (oN j) (M, g, F) = some (r, (M, g, F)) ∧ ∀ u, fX0_suitable_L4 K d (k + e2 + 1) b (oN j) u ((X, gx, XF, G, P), tl) = fX0_suitable_L4 K d (e2 + 1) r (oN n) u ((X, gx, XF, G, P), tl) := by
  induction k with
  | zero =>
    intro j e1 e2 b nr hj hb
    have hj : j = n := by omega
    subst hj
    refine ⟨b, ?_, ?_, fun u => by rw [Nat.zero_add]⟩
    · rcases hb with h | ⟨p, h1, h2, _⟩
      · exact Or.inl h
      · exact Or.inr ⟨p, h1, h2⟩
    · rw [Nat.zero_add, fX4_suitable_L18]
      refine (ga_t ⟨by decide, by decide⟩).trans ?_
      show (if F 0 205 ≤ oN j then _ else _) = _
      rw [hn, if_pos (by rw [le32]; exact Int.le_refl _)]
  | succ k ih =>
    intro j e1 e2 b nr hj hb
    have hjn : j < n := by omega
    by_cases c : suB M F j ∧ (b < 0 ∨ ¬ nr ≤ dsV F j)
    · obtain ⟨r, r1, r2, r3⟩ := ih (j + 1) e1 e2 (oN j) (dsV F j) (by omega) (Or.inr ⟨j, hjn, rfl, rfl⟩)
      refine ⟨r, r1, ?_, fun u => ?_⟩
      · rw [show k + 1 + e1 + 1 = (k + e1 + 1) + 1 by omega, su1M hc hK hn h16 hjn, if_pos c]
        exact r2
      · rw [show k + 1 + e2 + 1 = (k + e2 + 1) + 1 by omega, su1X hc hK hnd h72 h16 hen hjn _ b nr hb u, if_pos c]
        exact r3 u
    · obtain ⟨r, r1, r2, r3⟩ := ih (j + 1) e1 e2 b nr (by omega) hb
      refine ⟨r, r1, ?_, fun u => ?_⟩
      · rw [show k + 1 + e1 + 1 = (k + e1 + 1) + 1 by omega, su1M hc hK hn h16 hjn, if_neg c]
        exact r2
      · rw [show k + 1 + e2 + 1 = (k + e2 + 1) + 1 by omega, su1X hc hK hnd h72 h16 hen hjn _ b nr hb u, if_neg c]
        exact r3 u
/-- what is missing: the links -/
abbrev misK (M : Nat → Int32) (F : Nat → Nat → Int32) : List (Nat × Int32) := (14, F 0 0) :: (if 0 ≤ bandV M F (F 0 0) then [] else [(15, 0)])
theorem suB_all (h : FR d M F X XF G P tl) (hnd : NDt tl) (hK : 60 ≤ K) : (fX4_suitable K (M, g, F) = some (-1, (M, g, F)) ∧ ∀ u, ∃ (q : Nat) (nw : va_W) (ch : List (Nat × Nat × Int32)), fX0_suitable K d u ((X, gx, XF, G, P), tl) = some (.inl (14, q, ((X, gx, XF, G, P), nw ++ tl))) ∧ Cn0 nw ch (some q) ∧ ch.map (·.2) = misK M F) ∨ ∃ (p n : Nat), p < n ∧ n ≤ 16 ∧ F 0 205 = oN n ∧ fX4_suitable K (M, g, F) = some (oN p, (M, g, F)) ∧ ∀ u, fX0_suitable K d u ((X, gx, XF, G, P), tl) = some (.inr (oN p, ((X, gx, XF, G, P), tl))) := by
  obtain ⟨n, h1, h2, h3, h4, h5, h6⟩ := h.mem
  have hc := h.ld
  obtain ⟨r, r1, r2, r3⟩ := su_L (d := d) (g := g) (gx := gx) hc (show 40 ≤ K by omega) hnd h1 h3 h2 h4 n 0 (K - n - 1) (K - n - 1) (-1) 0 (by omega) (Or.inl rfl)
  have eK : n + (K - n - 1) + 1 = K := by omega
  rw [eK] at r2 r3
  have hM : fX4_suitable K (M, g, F) = some (r, (M, g, F)) := by
    unfold fX4_suitable
    refine (ga_t ⟨by decide, by decide⟩).trans ?_
    refine (b2_e (v := bandV M F (F 0 0)) (w := (M, g, F)) (bandM hc (by omega) _)).trans ?_
    exact r2
  have hX : ∀ u, fX0_suitable K d u ((X, gx, XF, G, P), tl) = fX0_suitable_L4 K d (K - n - 1 + 1) r (oN n) u ((X, gx, XF, G, P), tl) := fun u => r3 u
  have hend : ∀ u, fX0_suitable_L4 K d (K - n - 1 + 1) r (oN n) u ((X, gx, XF, G, P), tl) = if r = -1 then (if bandV M F (F 0 0) = -2 then some (.inl (14, u 0, ((X, gx, XF, G, P), ([fcell (u 0) 14 (F 0 0) (some (u 1))] ++ [fcell (u 1) 15 0 none]) ++ tl))) else some (.inl (14, u 0, ((X, gx, XF, G, P), [fcell (u 0) 14 (F 0 0) none] ++ tl)))) else some (.inr (r, ((X, gx, XF, G, P), tl))) := by
    intro u
    rw [fX0_suitable_L4]
    refine (b1_e (v := X 72) rfl).trans ?_
    rw [h3, if_pos (by rw [le32]; exact Int.le_refl _)]
    by_cases c : r = -1
    · rw [if_pos c, if_pos c]
      refine (b1_e (v := bandV M F (F 0 0)) (by show fX6_bandOf K (X 60) (X, gx, XF, G, P) = _; rw [hc.s.fq]; exact bandX hc (by omega) _)).trans ?_
      by_cases c2 : bandV M F (F 0 0) = -2
      · rw [if_pos c2, if_pos c2]
        unfold ask
        show some (Sum.inl (14, u 0, ((X, gx, XF, G, P), ([fcell (u 0) 14 (X 60) (some (u 1))] ++ [fcell (u 1) 15 0 none]) ++ tl))) = _
        rw [hc.s.fq]
      · rw [if_neg c2, if_neg c2]
        unfold ask
        show some (Sum.inl (14, u 0, ((X, gx, XF, G, P), [fcell (u 0) 14 (X 60) none] ++ tl))) = _
        rw [hc.s.fq]
    · rw [if_neg c, if_neg c]
  rcases r1 with hr | ⟨p, hp, hr⟩
  · left
    subst hr
    refine ⟨hM, fun u => ?_⟩
    rw [hX u, hend u, if_pos rfl]
    rcases bandV_c hc (F 0 0) with hb | hb
    · rw [if_pos hb]
      refine ⟨u 0, _, [(u 0, 14, F 0 0), (u 1, 15, 0)], rfl, (Cn1 _ 15 _ (by decide)).cons _ 14 _ (by decide), ?_⟩
      show [(14, F 0 0), (15, 0)] = misK M F
      unfold misK
      rw [if_neg (by rw [hb]; decide)]
    · have hb0 : 0 ≤ bandV M F (F 0 0) := by rw [le32, k32_0]; exact hb.1
      rw [if_neg (fun q => by rw [q] at hb0; exact absurd hb0 (by decide))]
      refine ⟨u 0, _, [(u 0, 14, F 0 0)], rfl, Cn1 _ 14 _ (by decide), ?_⟩
      show [(14, F 0 0)] = misK M F
      unfold misK
      rw [if_pos hb0]
  · right
    subst hr
    refine ⟨p, n, hp, h2, h1, hM, fun u => ?_⟩
    have ep : (oN p).toInt = p := oNi (by omega)
    have nb1 : ¬ oN p = -1 := by rw [eq32, ep]; show ¬ (p : Int) = -1; omega
    rw [hX u, hend u, if_neg nb1]
end SUIT
