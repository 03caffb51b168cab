/-! plain law: forget, undo -/
set_option maxRecDepth 100000
theorem FR.setMem {d : Nat → ClassId} {M : Nat → Int32} {F : Nat → Nat → Int32} {X : Nat → Int32} {XF : Nat → Nat → Int32} {G : Nat → Nat → Int64} {P : Nat → Nat → Option Nat} {tl : va_W} (h : FR d M F X XF G P tl) {S' : Nat → Int32} {n n' : Nat} {L' : Nat → Option Nat} {nw : va_W} {mc : Int32} (hn : F 0 205 = oN n) (hn16 : n ≤ 16) (hS : ∀ k, k < 205 → S' k = F 0 k) (h205 : S' 205 = oN n') (h16 : n' ≤ 16)
    (hk : ∀ k, k < n' → (∃ j, j < n ∧ L' k = P 18 j ∧ S' (206 + k) = F 0 (206 + j) ∧ S' (222 + k) = F 0 (222 + j) ∧ S' (238 + k) = F 0 (238 + j)) ∨ ((∃ q, L' k = some q ∧ (q, (.inr (16, [.int (S' (206 + k)), .int (S' (222 + k)), .int (S' (238 + k))]) : va_E)) ∈ nw) ∧ (1500 ≤ (S' (206 + k)).toInt ∧ (S' (206 + k)).toInt ≤ 30000) ∧ 0 ≤ (S' (222 + k)).toInt ∧ (S' (222 + k)).toInt ≤ 8191))
    (ho : ∀ k, n' ≤ k → L' k = none) : FR d M (mup F 0 S') (mup (mup X 70 mc) 72 (oN n')) XF G (mup P 18 L') (nw ++ tl) := by
  obtain ⟨bl, rest, ch, a, hc, hm, h2, hh, hp, hf, h10, ht⟩ := h
  obtain ⟨m1, m2, m3, m4, m5⟩ := hm
  have en : (X 72).toInt = n := by rw [m1, hn]; exact oNi (by omega)
  have en' : (oN n').toInt = n' := oNi (by omega)
  have hr : ∀ c ∈ rest, c ∈ nw ++ rest := fun c hc => List.mem_append_right _ hc
  refine ⟨bl, nw ++ rest, ch, a, CR.mk (hc.t.cg (fun k _ _ => rfl) (fun k _ _ => mup_n _ _ (by omega)) (fun k _ _ => by rw [mup_n _ _ (by omega), mup_n _ _ (by omega)]) (fun k _ _ => rfl)) ?_ hc.ld, ?_, h2, ?_, ?_, ?_, ?_, ?_⟩
  · rw [mup_s]
    exact (hc.s.cg (fun k hk => hS k hk)).cx (fun k _ _ => by rw [mup_n _ _ (by omega), mup_n _ _ (by omega)]) (fun _ _ _ => rfl)
  · rw [mup_s, mup_s, mup_s]
    refine ⟨h205.symm, by rw [en']; omega, fun k hkk => ?_, fun k hkk => ?_, fun k hkk => ?_⟩
    · rw [en'] at hkk
      rcases hk k (by omega) with ⟨j, a1, a2, a3, a4, a5⟩ | ⟨⟨q, a1, a2⟩, a3⟩
      · obtain ⟨q, b1, b2⟩ := m3 j (by omega)
        refine ⟨q, by rw [a2]; exact b1, ?_⟩
        rw [a3, a4, a5]
        exact hr _ b2
      · exact ⟨q, a1, List.mem_append_left _ a2⟩
    · rw [en'] at hkk
      exact ho k (by omega)
    · rw [en'] at hkk
      rcases hk k (by omega) with ⟨j, a1, a2, a3, a4, a5⟩ | ⟨_, a3⟩
      · rw [a3, a4]
        exact m5 j (by omega)
      · exact a3
  · rw [mup_n F _ (by decide), mup_n P _ (by decide), mup_n _ _ (by decide), mup_n _ _ (by decide), mup_n _ _ (by decide), mup_n _ _ (by decide)]
    exact hh.cg (fun _ _ => rfl) hr
  · exact (List.Perm.append_left nw hp).trans (List.perm_append_comm_assoc nw _ rest)
  · rw [mup_n P _ (by decide)]
    exact hf.cg rfl (mup_n F _ (by decide)) (mup_n F _ (by decide)) hr
  · rw [mup_n _ _ (by decide), mup_n _ _ (by decide)]; exact h10
  · exact ht.cg rfl rfl (mup_n F _ (by decide)) (by rw [mup_n _ _ (by decide), mup_n _ _ (by decide)]) (by rw [mup_n _ _ (by decide), mup_n _ _ (by decide)]) rfl
def mv (S : Nat → Int32) (a b : Nat) : Nat → Int32 := upd (upd (upd S (206 + b) (S (206 + a))) (222 + b) (S (222 + a))) (238 + b) (S (238 + a))
theorem k32_206 : (206 : Int32).toInt = (206 : Nat) := rfl
theorem k32_222 : (222 : Int32).toInt = (222 : Nat) := rfl
theorem k32_238 : (238 : Int32).toInt = (238 : Nat) := rfl
theorem mvM (K : Nat) (M : Nat → Int32) (g : Nat → Int64) (F : Nat → Nat → Int32) {a b : Nat} (ha : a < 16) (hb : b < 16) : fX4_moveEntry K (oN a) (oN b) (M, g, F) = some (M, g, mup F 0 (mv (F 0) a b)) := by
  have ea : (oN a).toInt = a := oNi (by omega)
  have eb : (oN b).toInt = b := oNi (by omega)
  have o : ∀ j k : Nat, j ≤ 238 → k < 16 → j + k < 254 ∧ j + k < 2147483648 := fun j k h1 h2 => by omega
  have u1 : upd (F 0) (206 + b) (F 0 (206 + a)) (222 + a) = F 0 (222 + a) := by rw [upd_e, if_neg (by omega)]
  have u2 : upd (upd (F 0) (206 + b) (F 0 (206 + a))) (222 + b) (F 0 (222 + a)) (238 + a) = F 0 (238 + a) := by rw [upd_e, if_neg (by omega), upd_e, if_neg (by omega)]
  have f1 : (206 + oN a : Int32).toInt = (206 + a : Nat) := addN k32_206 ea (o 206 a (by decide) ha).2
  have f2 : (206 + oN b : Int32).toInt = (206 + b : Nat) := addN k32_206 eb (o 206 b (by decide) hb).2
  have f3 : (222 + oN a : Int32).toInt = (222 + a : Nat) := addN k32_222 ea (o 222 a (by decide) ha).2
  have f4 : (222 + oN b : Int32).toInt = (222 + b : Nat) := addN k32_222 eb (o 222 b (by decide) hb).2
  have f5 : (238 + oN a : Int32).toInt = (238 + a : Nat) := addN k32_238 ea (o 238 a (by decide) ha).2
  have f6 : (238 + oN b : Int32).toInt = (238 + b : Nat) := addN k32_238 eb (o 238 b (by decide) hb).2
  unfold fX4_moveEntry
  refine (ga_t (ixN f1 (o 206 a (by decide) ha).1)).trans ?_
  refine (ga_t (ixN f2 (o 206 b (by decide) hb).1)).trans ?_
  rw [nmr, nnN f1, nnN f2]
  refine (ga_t (ixN f3 (o 222 a (by decide) ha).1)).trans ?_
  refine (ga_t (ixN f4 (o 222 b (by decide) hb).1)).trans ?_
  rw [nmr, nnN f3, nnN f4]
  refine (ga_t (ixN f5 (o 238 a (by decide) ha).1)).trans ?_
  refine (ga_t (ixN f6 (o 238 b (by decide) hb).1)).trans ?_
  rw [nmr, nnN f5, nnN f6]
  show some (M, g, mup (mup (mup F 0 (upd (F 0) (206 + b) (F 0 (206 + a)))) 0 (upd (mup F 0 (upd (F 0) (206 + b) (F 0 (206 + a))) 0) (222 + b) (mup F 0 (upd (F 0) (206 + b) (F 0 (206 + a))) 0 (222 + a)))) 0 (upd (mup (mup F 0 (upd (F 0) (206 + b) (F 0 (206 + a)))) 0 (upd (mup F 0 (upd (F 0) (206 + b) (F 0 (206 + a))) 0) (222 + b) (mup F 0 (upd (F 0) (206 + b) (F 0 (206 + a))) 0 (222 + a))) 0) (238 + b) (mup (mup F 0 (upd (F 0) (206 + b) (F 0 (206 + a)))) 0 (upd (mup F 0 (upd (F 0) (206 + b) (F 0 (206 + a))) 0) (222 + b) (mup F 0 (upd (F 0) (206 + b) (F 0 (206 + a))) 0 (222 + a))) 0 (238 + a)))) = _
  rw [mup_mup, mup_mup, mup_s, mup_s, u1, u2]
  rfl
/-- a field of the entries, by its place -/
abbrev isB (B : Nat) : Prop := B = 206 ∨ B = 222 ∨ B = 238
theorem mv_e (S : Nat → Int32) {a b B i : Nat} (hB : isB B) (hb : b < 16) (hi : i < 16) : mv S a b (B + i) = if i = b then S (B + a) else S (B + i) := by
  unfold mv
  rw [upd_e, upd_e, upd_e]
  rcases hB with rfl | rfl | rfl
  · rw [if_neg (by omega), if_neg (by omega)]
    by_cases c : i = b
    · rw [if_pos (by omega), if_pos c]
    · rw [if_neg (by omega), if_neg c]
  · rw [if_neg (by omega)]
    by_cases c : i = b
    · rw [if_pos (by omega), if_pos c]
    · rw [if_neg (by omega), if_neg (by omega), if_neg c]
  · by_cases c : i = b
    · rw [if_pos (by omega), if_pos c]
    · rw [if_neg (by omega), if_neg (by omega), if_neg (by omega), if_neg c]
theorem mv_o (S : Nat → Int32) {a b k : Nat} (hk : k ≤ 205) : mv S a b k = S k := by
  unfold mv
  rw [upd_e, upd_e, upd_e, if_neg (by omega), if_neg (by omega), if_neg (by omega)]
theorem forM (K : Nat) (M : Nat → Int32) (g : Nat → Int64) (n : Nat) (hn : n ≤ 16) (k : Nat) : ∀ (m j : Nat) (F : Nat → Nat → Int32), F 0 205 = oN n → 1 ≤ j → j + k = n → k + 1 ≤ m → ∃ S', fX4_forget_L18 K m (oN j) (M, g, F) = some (oN (n - 1), (M, g, mup F 0 S')) ∧ S' 205 = oN (n - 1) ∧ (∀ k, k < 205 → S' k = F 0 k) ∧ ∀ B i, isB B → i < 16 → S' (B + i) = if j - 1 ≤ i ∧ i < n - 1 then F 0 (B + (i + 1)) else F 0 (B + i) := by
  induction k with
  | zero =>
    intro m j F h205 hj hjk hm
    obtain ⟨m, rfl⟩ : ∃ k, m = k + 1 := ⟨m - 1, by omega⟩
    have hj : j = n := by omega
    subst hj
    have e1 : oN j - 1 = oN (j - 1) := oN_of (sub1N (by rw [oNi (by omega)]; omega))
    refine ⟨upd (F 0) 205 (oN (j - 1)), ?_, by rw [upd_e, if_pos rfl], fun k hk => by rw [upd_e, if_neg (by omega)], fun B i hB hi => ?_⟩
    · rw [fX4_forget_L18]
      refine (ga_t ⟨by decide, by decide⟩).trans ?_
      show (if F 0 205 ≤ oN j then _ else _) = _
      rw [h205, if_pos (by rw [le32]; exact Int.le_refl _)]
      refine (ga_t ⟨by decide, by decide⟩).trans ?_
      refine (ga_t ⟨by decide, by decide⟩).trans ?_
      rw [nmr]
      refine (ga_t ⟨by decide, by decide⟩).trans ?_
      show some (mup F 0 (upd (F 0) 205 (F 0 205 - 1)) 0 205, _) = _
      rw [mup_s, upd_e, if_pos rfl, h205, e1]
      show some (_, M, g, mup F 0 (upd (F 0) 205 (F 0 205 - 1))) = _
      rw [h205, e1]
    · rw [upd_e, if_neg (by rcases hB with rfl | rfl | rfl <;> omega), if_neg (by omega)]
  | succ k ih =>
    intro m j F h205 hj hjk hm
    obtain ⟨m, rfl⟩ : ∃ k, m = k + 1 := ⟨m - 1, by omega⟩
    have e1 : oN j - 1 = oN (j - 1) := oN_of (sub1N (by rw [oNi (by omega)]; omega))
    obtain ⟨S', a1, a2, a3, a4⟩ := ih m (j + 1) (mup F 0 (mv (F 0) j (j - 1))) (by rw [mup_s, mv_o _ (by omega)]; exact h205) (by omega) (by omega) (by omega)
    rw [mup_mup] at a1
    refine ⟨S', ?_, a2, fun k hk => ?_, fun B i hB hi => ?_⟩
    · rw [fX4_forget_L18]
      refine (ga_t ⟨by decide, by decide⟩).trans ?_
      show (if F 0 205 ≤ oN j then _ else _) = _
      rw [h205, if_neg (by rw [le32, oNi (by omega), oNi (by omega)]; omega), e1]
      refine (b1_e (mvM K M g F (by omega) (by omega))).trans ?_
      rw [oN_s (by omega)]
      exact a1
    · rw [a3 k hk, mup_s, mv_o _ (by omega)]
    · rw [a4 B i hB hi, mup_s]
      by_cases c1 : j + 1 - 1 ≤ i ∧ i < n - 1
      · rw [if_pos c1, if_pos (by omega), mv_e _ hB (by omega) (by omega), if_neg (by omega)]
      · rw [if_neg c1, mv_e _ hB (by omega) hi]
        by_cases c2 : i = j - 1
        · rw [if_pos c2, if_pos (by omega)]
          congr 1
          omega
        · rw [if_neg c2, if_neg (by omega)]
theorem remvX (K : Nat) {mc : Int32} {L : Nat → Option Nat} {n p q : Nat} (hn : n ≤ 16) (hp : p < n) (hq : L p = some q) : ∃ L', fJ14_remove K (oN p) (mc, oN n, L) = some (q, mc + 1, oN (n - 1), L') ∧ ∀ k, L' k = if k = n - 1 then none else if p ≤ k ∧ k < n - 1 then L (k + 1) else L k := by
  have ep : (oN p).toInt = p := oNi (by omega)
  have en : (oN n).toInt = n := oNi (by omega)
  have e1 : oN n - 1 = oN (n - 1) := oN_of (sub1N (by rw [en]; omega))
  have en1 : (oN (n - 1)).toInt = (n - 1 : Nat) := oNi (by omega)
  have i1 : ix (oN p) 16 := ixN ep (by omega)
  have i2 : ix (oN (n - 1)) 16 := ixN en1 (by omega)
  have o0 : (0 : Int) ≤ (oN p).toInt ∧ (oN p).toInt < (oN n).toInt := by rw [ep, en]; omega
  have hfast : ∃ L', fJ14_fastRemove K (oN p) (mc, oN n, L) = some (mc + 1, oN (n - 1), L') ∧ ∀ k, L' k = if k = n - 1 then none else if p ≤ k ∧ k < n - 1 then L (k + 1) else L k := by
    unfold fJ14_fastRemove
    rw [nmr]
    show ∃ L', (if oN n - 1 ≤ oN p then ga (ix (oN n - 1) 16) (some (mc + 1, oN n - 1, va_up L (oN n - 1).toNatClampNeg none)) else ga (0 ≤ (oN p + 1).toInt ∧ 0 ≤ (oN p).toInt ∧ 0 ≤ (oN n - 1 - oN p).toInt ∧ (oN p + 1).toNatClampNeg + (oN n - 1 - oN p).toNatClampNeg ≤ 16 ∧ (oN p).toNatClampNeg + (oN n - 1 - oN p).toNatClampNeg ≤ 16) (ga (ix (oN n - 1) 16) (some (mc + 1, oN n - 1, va_up (va_cpy L L (oN p + 1).toNatClampNeg (oN p).toNatClampNeg (oN n - 1 - oN p).toNatClampNeg) (oN n - 1).toNatClampNeg none)))) = _ ∧ _
    rw [e1, oN_s (by omega)]
    have e2 : oN (n - 1) - oN p = oN (n - 1 - p) ∨ n - 1 < p := by
      by_cases c : p ≤ n - 1
      · left
        apply oN_of
        rw [s32, en1, ep] <;> (try rw [en1, ep]) <;> omega
      · right; omega
    by_cases c : n - 1 ≤ p
    · refine ⟨va_up L (n - 1) none, ?_, fun k => ?_⟩
      · rw [if_pos (by rw [le32, en1, ep]; omega)]
        refine (ga_t i2).trans ?_
        rw [nnN en1]
      · rw [vau_e]
        by_cases c2 : k = n - 1
        · rw [if_pos c2, if_pos c2]
        · rw [if_neg c2, if_neg c2, if_neg (by omega)]
    · have e3 : oN (n - 1) - oN p = oN (n - 1 - p) := by
        rcases e2 with e | e
        · exact e
        · omega
      refine ⟨va_up (va_cpy L L (p + 1) p (n - 1 - p)) (n - 1) none, ?_, fun k => ?_⟩
      · rw [if_neg (by rw [le32, en1, ep]; omega), e3]
        rw [oNn (show p + 1 < 2147483648 by omega), oNn (show p < 2147483648 by omega), oNn (show n - 1 - p < 2147483648 by omega), nnN en1]
        have g1 : (0 : Int) ≤ (oN (p + 1)).toInt := by rw [oNi (by omega)]; omega
        have g2 : (0 : Int) ≤ (oN p).toInt := by rw [oNi (by omega)]; omega
        have g3 : (0 : Int) ≤ (oN (n - 1 - p)).toInt := by rw [oNi (by omega)]; omega
        refine (ga_t ⟨g1, g2, g3, by omega, by omega⟩).trans ?_
        exact (ga_t i2)
      · rw [vau_e, cpy_e]
        by_cases c2 : k = n - 1
        · rw [if_pos c2, if_pos c2]
        · rw [if_neg c2, if_neg c2]
          by_cases c3 : p ≤ k ∧ k < n - 1
          · rw [if_pos (by omega), if_pos c3]
            congr 1
            omega
          · rw [if_neg (by omega), if_neg c3]
  obtain ⟨L', f1, f2⟩ := hfast
  refine ⟨L', ?_, f2⟩
  unfold fJ14_remove
  refine (b1_e (jck K (k := oN p) (n := oN n) o0)).trans ?_
  refine (ga_t i1).trans ?_
  refine (b1_e (show L (oN p).toNatClampNeg = some q by rw [nnN ep]; exact hq)).trans ?_
  exact (b1_e f1).trans rfl
section OPS
variable {K : Nat} {d : Nat → ClassId} {M : Nat → Int32} {F : Nat → Nat → Int32} {X : Nat → Int32} {XF : Nat → Nat → Int32} {G : Nat → Nat → Int64} {g gx : Nat → Int64} {P : Nat → Nat → Option Nat} {tl : va_W}
theorem OK.ofU {α : Type} {fa : Option (α × MS)} {fb : UU → Option (α × XT)} {r : α} {μ' : MS} (h1 : fa = some (r, μ')) (h2 : ∀ u, ∃ y : XT, fb u = some (r, y) ∧ FRt d μ' y) : OK d fa fb := ⟨r, μ', fun u => (h2 u).choose, h1, fun u => (h2 u).choose_spec.1, fun u => (h2 u).choose_spec.2⟩
theorem q_forget (h : FR d M F X XF G P tl) (hK : 4000 ≤ K) (v : Int32) : OK d (fX4_forget K v (M, g, F)) (fun u => fX0_forget K d v u ((X, gx, XF, G, P), tl)) := by
  obtain ⟨n, h1, h2, h3, h4, h5, -⟩ := h.mem
  by_cases c : 0 ≤ v.toInt ∧ v.toInt < n
  · obtain ⟨p, hp, hpn⟩ : ∃ j : Nat, v = oN j ∧ j < n := ⟨v.toNatClampNeg, oN_of (nn32 c.1).symm, by have := nn32 c.1; omega⟩
    subst hp
    obtain ⟨M1, F1, X1, P1, tl1, a1, a2, a3⟩ := remB h hK g gx
    obtain ⟨r1, r2, r3, r4, r5⟩ := a3 (fun _ => 0)
    have e0 : F1 0 = F 0 := r3 0 (by decide)
    have e72 : X1 72 = oN n := by rw [r4 72 (by decide) (by decide)]; exact h3
    have k1 : F1 0 205 = oN n := by rw [e0]; exact h1
    obtain ⟨S', s1, s2, s3, s4⟩ := forM K M1 g n h2 (n - (p + 1)) K (p + 1) F1 k1 (by omega) (by omega) (by omega)
    refine OK.ofU (r := oN (n - 1)) (μ' := (M1, g, mup F1 0 S')) ?_ (fun u => ?_)
    · unfold fX4_forget
      refine (b2_e (iseM h h1 h2 K _)).trans ?_
      rw [if_pos (decide_eq_true c)]
      refine (b1_e a1).trans ?_
      rw [nmr, oN_s (by omega)]
      exact s1
    · have ru := a3 (ue u)
      have e18 : P1 (ue u) 18 = P 18 := ru.2.2.2.2 18 (by decide)
      obtain ⟨q, hq, -⟩ := h4 p hpn
      obtain ⟨L', l1, l2⟩ := remvX K (mc := X1 70) (L := P1 (ue u) 18) h2 hpn (by rw [e18]; exact hq)
      obtain ⟨n1, f1, f2, f3, f4, f5, -⟩ := ru.1.mem
      have hn1 : n1 = n := by
        have : (oN n1).toInt = (oN n).toInt := by rw [← f1, ← k1]
        rw [oNi (by omega), oNi (by omega)] at this
        omega
      subst hn1
      refine ⟨((mup (mup (mup X1 70 (X1 70 + 1)) 72 (oN (n1 - 1))) 72 (oN (n1 - 1)), gx, XF, G, mup (P1 (ue u)) 18 L'), tl1 (ue u)), ?_, ?_⟩
      · unfold fX0_forget
        refine (b2_e (iseX h3 h2 K _)).trans ?_
        rw [if_pos (decide_eq_true c)]
        unfold b1u
        refine (b1_e (a2 (ue u))).trans ?_
        refine (gaP_t ?_).trans ?_
        · intro j q0 hj
          have hjn : j < n1 := by
            refine Nat.lt_of_not_le fun hle => ?_
            have := f5 j hle
            rw [show ((X1, gx, XF, G, P1 (ue u)), tl1 (ue u)).1.2.2.2.2 18 j = P1 (ue u) 18 j from rfl, this] at hj
            cases hj
          obtain ⟨q1, g1, g2⟩ := f4 j hjn
          have : q1 = q0 := Option.some.inj (g1.symm.trans hj)
          subst this
          exact ⟨_, g2⟩
        · refine (b2_e (v := q) (w := (X1 70 + 1, oN (n1 - 1), L')) ?_).trans ?_
          · show fJ14_remove K (oN p) (X1 70, X1 72, P1 (ue u) 18) = _
            rw [e72]; exact l1
          · rw [nmr]
            refine (b1_e (v := oN (n1 - 1)) ?_).trans ?_
            · show some (mup (mup X1 70 (X1 70 + 1)) 72 (oN (n1 - 1)) 72) = _
              rw [mup_s]
            · show some (oN (n1 - 1), _) = _
              rw [mup_mup]
              rfl
      · show FR d M1 (mup F1 0 S') (mup (mup (mup X1 70 (X1 70 + 1)) 72 (oN (n1 - 1))) 72 (oN (n1 - 1))) XF G (mup (P1 (ue u)) 18 L') (tl1 (ue u))
        rw [mup_mup]
        refine ru.1.setMem (nw := []) (n := n1) k1 h2 s3 s2 (by omega) (fun k hk => ?_) (fun k hk => ?_)
        · left
          have l2k := l2 k
          rw [if_neg (by omega)] at l2k
          have s6 := s4 206 k (Or.inl rfl) (by omega)
          have s7 := s4 222 k (Or.inr (Or.inl rfl)) (by omega)
          have s8 := s4 238 k (Or.inr (Or.inr rfl)) (by omega)
          by_cases c2 : p ≤ k ∧ k < n1 - 1
          · rw [if_pos c2] at l2k
            rw [if_pos (by omega)] at s6 s7 s8
            exact ⟨k + 1, by omega, l2k, s6, s7, s8⟩
          · rw [if_neg c2] at l2k
            rw [if_neg (by omega)] at s6 s7 s8
            exact ⟨k, by omega, l2k, s6, s7, s8⟩
        · rw [l2 k]
          by_cases c2 : k = n1 - 1
          · rw [if_pos c2]
          · rw [if_neg c2, if_neg (by omega)]
            exact f5 k (by omega)
  · refine OK.same (r := -1) h (g := g) (gx := gx) ?_ fun u => ?_
    · unfold fX4_forget
      refine (b2_e (iseM h h1 h2 K v)).trans ?_
      rw [if_neg (by rw [decide_eq_false c]; decide)]
    · unfold fX0_forget
      refine (b2_e (iseX h3 h2 K v)).trans ?_
      rw [if_neg (by rw [decide_eq_false c]; decide)]
end OPS
