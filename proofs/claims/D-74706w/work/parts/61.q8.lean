/-! plain law: transmitting -/
set_option maxRecDepth 100000
theorem k32_5 : (5 : Int32).toInt = 5 := rfl
theorem k32_100 : (100 : Int32).toInt = 100 := rfl
theorem k32_105 : (105 : Int32).toInt = 105 := rfl
theorem k32_4 : (4 : Int32).toInt = 4 := rfl
theorem k32_3 : (3 : Int32).toInt = 3 := rfl
theorem nnN {a : Int32} {n : Nat} (h : a.toInt = n) : a.toNatClampNeg = n := by
  rw [Int32.toNatClampNeg, h]; rfl
theorem ixN {a : Int32} {n k : Nat} (h : a.toInt = n) (hn : n < k) : ix a k := by
  unfold ix
  rw [h]
  exact ⟨Int.natCast_nonneg _, by omega⟩
theorem addN {a b : Int32} {x y : Nat} (ha : a.toInt = x) (hb : b.toInt = y) (h : x + y < 2147483648) : (a + b).toInt = (x + y : Nat) := by
  rw [a32, ha, hb] <;> (try rw [ha, hb]) <;> omega
theorem sub1N {a : Int32} {x : Nat} (ha : a.toInt = (x + 1 : Nat)) : (a - 1).toInt = x := by
  have h1 := u32 a
  rw [ha] at h1
  rw [s32, ha, k32_1] <;> (try rw [ha, k32_1]) <;> omega
/-- a reading is kept: n were there -/
def KS (S S' : Nat → Int32) (n : Nat) (v f : Int32) : Prop :=
  S' 4 = oN ((if n = 100 then 99 else n) + 1) ∧ (∀ k, k < (if n = 100 then 99 else n) → S' (5 + k) = S (5 + k + (if n = 100 then 1 else 0)) ∧ S' (105 + k) = S (105 + k + (if n = 100 then 1 else 0))) ∧ S' (5 + (if n = 100 then 99 else n)) = v ∧ S' (105 + (if n = 100 then 99 else n)) = f ∧ ∀ k, (k < 4 ∨ 205 ≤ k) → S' k = S k
section KEEP
variable {K : Nat} {M : Nat → Int32} {g : Nat → Int64}
theorem keep73 (F : Nat → Nat → Int32) (v f : Int32) (n : Nat) (hn : n ≤ 99) (h4 : F 0 4 = oN n) : fX4_keepReading_L73 K v f (M, g, F) = some (M, g, mup F 0 (upd (upd (upd (F 0) (5 + n) v) (105 + n) f) 4 (oN (n + 1)))) := by
  have en : (oN n).toInt = n := oNi (by omega)
  have u1 : upd (F 0) (5 + n) v 4 = oN n := by rw [upd_e, if_neg (by omega)]; exact h4
  have u2 : upd (upd (F 0) (5 + n) v) (105 + n) f 4 = oN n := by rw [upd_e, if_neg (by omega)]; exact u1
  have o1 : 5 + n < 2147483648 := by omega
  have o2 : 105 + n < 2147483648 := by omega
  have o3 : 5 + n < 254 := by omega
  have o5 : 105 + n < 254 := by omega
  have o7 : n + 1 < 2147483648 := by omega
  have e5 : (5 + oN n).toInt = (5 + n : Nat) := addN (x := 5) k32_5 en o1
  have e6 : (5 + oN n).toNatClampNeg = 5 + n := nnN e5
  have e7 : (105 + oN n).toInt = (105 + n : Nat) := addN (x := 105) k32_105 en o2
  have e8 : (105 + oN n).toNatClampNeg = 105 + n := nnN e7
  unfold fX4_keepReading_L73
  refine (ga_t ⟨by decide, by decide⟩).trans ?_
  show ga (ix (5 + F 0 4) 254) (nm (M, g, mup F 0 (upd (F 0) (5 + F 0 4).toNatClampNeg v)) _) = _
  rw [h4, e6]
  refine (ga_t (ixN e5 o3)).trans ?_
  rw [nmr]
  refine (ga_t ⟨by decide, by decide⟩).trans ?_
  show ga (ix (105 + mup F 0 (upd (F 0) (5 + n) v) 0 4) 254) (nm (M, g, mup (mup F 0 (upd (F 0) (5 + n) v)) 0 (upd (mup F 0 (upd (F 0) (5 + n) v) 0) (105 + mup F 0 (upd (F 0) (5 + n) v) 0 4).toNatClampNeg f)) _) = _
  rw [mup_mup, mup_s, u1, e8]
  refine (ga_t (ixN e7 o5)).trans ?_
  rw [nmr]
  refine (ga_t ⟨by decide, by decide⟩).trans ?_
  refine (ga_t ⟨by decide, by decide⟩).trans ?_
  show some (M, g, mup (mup F 0 (upd (upd (F 0) (5 + n) v) (105 + n) f)) 0 (upd (mup F 0 (upd (upd (F 0) (5 + n) v) (105 + n) f) 0) 4 (mup F 0 (upd (upd (F 0) (5 + n) v) (105 + n) f) 0 4 + 1))) = _
  rw [mup_mup, mup_s, u2, oN_s o7]
theorem keep13 (v f : Int32) (n : Nat) : ∀ (m j : Nat) (F : Nat → Nat → Int32), j + n = 100 → 1 ≤ j → n + 1 ≤ m → ∃ S, fX4_keepReading_L13 K m v f (oN j) (M, g, F) = fX4_keepReading_L73 K v f (M, g, mup F 0 (upd S 4 (F 0 4 - 1))) ∧ ∀ i, S i = if (4 + j ≤ i ∧ i < 104) ∨ (104 + j ≤ i ∧ i < 204) then F 0 (i + 1) else F 0 i := by
  induction n with
  | zero =>
    intro m j F hj h1 hm
    obtain ⟨m, rfl⟩ : ∃ k, m = k + 1 := ⟨m - 1, by omega⟩
    refine ⟨F 0, ?_, fun i => by rw [if_neg (by omega)]⟩
    rw [fX4_keepReading_L13, if_pos (by rw [le32, k32_100, oNi (by omega)]; omega)]
    refine (ga_t ⟨by decide, by decide⟩).trans ?_
    refine (ga_t ⟨by decide, by decide⟩).trans ?_
    rw [nmr]
    rfl
  | succ n ih =>
    intro m j F hj h1 hm
    obtain ⟨m, rfl⟩ : ∃ k, m = k + 1 := ⟨m - 1, by omega⟩
    have ej : (oN j).toInt = j := oNi (by omega)
    obtain ⟨S, h2, h3⟩ := ih m (j + 1) (mup F 0 (upd (upd (F 0) (4 + j) (F 0 (5 + j))) (104 + j) (F 0 (105 + j)))) (by omega) (by omega) (by omega)
    rw [mup_s] at h2 h3
    have u4 : upd (upd (F 0) (4 + j) (F 0 (5 + j))) (104 + j) (F 0 (105 + j)) 4 = F 0 4 := by rw [upd_e, if_neg (by omega), upd_e, if_neg (by omega)]
    rw [mup_mup, u4] at h2
    refine ⟨S, ?_, fun i => ?_⟩
    · have o0 : ¬ (oN j).toInt ≥ 100 := by omega
      have o1 : 5 + j < 2147483648 := by omega
      have o2 : 105 + j < 2147483648 := by omega
      have o3 : 5 + j < 254 := by omega
      have o4 : 4 + j < 254 := by omega
      have o5 : 105 + j < 254 := by omega
      have o6 : 104 + j < 254 := by omega
      have o7 : j + 1 < 2147483648 := by omega
      have o8 : (5 + j : Nat) = (4 + j) + 1 := by omega
      have o9 : (105 + j : Nat) = (104 + j) + 1 := by omega
      have u5 : upd (F 0) (4 + j) (F 0 (5 + j)) (105 + j) = F 0 (105 + j) := by rw [upd_e, if_neg (by omega)]
      have e5 : (5 + oN j).toInt = (5 + j : Nat) := addN (x := 5) k32_5 ej o1
      have e6 : (5 + oN j).toNatClampNeg = 5 + j := nnN e5
      have e51 : (5 + oN j - 1).toInt = (4 + j : Nat) := sub1N (by rw [e5, o8])
      have e61 : (5 + oN j - 1).toNatClampNeg = 4 + j := nnN e51
      have e7 : (105 + oN j).toInt = (105 + j : Nat) := addN (x := 105) k32_105 ej o2
      have e8 : (105 + oN j).toNatClampNeg = 105 + j := nnN e7
      have e71 : (105 + oN j - 1).toInt = (104 + j : Nat) := sub1N (by rw [e7, o9])
      have e81 : (105 + oN j - 1).toNatClampNeg = 104 + j := nnN e71
      rw [fX4_keepReading_L13, if_neg (by rw [le32, k32_100]; exact o0)]
      refine (ga_t (ixN e5 o3)).trans ?_
      refine (ga_t (ixN e51 o4)).trans ?_
      rw [nmr, e6, e61]
      refine (ga_t (ixN e7 o5)).trans ?_
      refine (ga_t (ixN e71 o6)).trans ?_
      rw [nmr, e8, e81, oN_s o7]
      show fX4_keepReading_L13 K m v f (oN (j + 1)) (M, g, mup (mup F 0 (upd (F 0) (4 + j) (F 0 (5 + j)))) 0 (upd (mup F 0 (upd (F 0) (4 + j) (F 0 (5 + j))) 0) (104 + j) (mup F 0 (upd (F 0) (4 + j) (F 0 (5 + j))) 0 (105 + j)))) = _
      rw [mup_mup, mup_s, u5]
      exact h2
    · rw [h3 i]
      by_cases c1 : (4 + (j + 1) ≤ i ∧ i < 104) ∨ (104 + (j + 1) ≤ i ∧ i < 204)
      · rw [if_pos c1, if_pos (by omega), upd_e, if_neg (by omega), upd_e, if_neg (by omega)]
      · rw [if_neg c1, upd_e]
        by_cases c2 : i = 104 + j
        · rw [if_pos c2, if_pos (by omega)]
          congr 1
          omega
        · rw [if_neg c2, upd_e]
          by_cases c3 : i = 4 + j
          · rw [if_pos c3, if_pos (by omega)]
            congr 1
            omega
          · rw [if_neg c3, if_neg (by omega)]
theorem keepM (hK : 102 ≤ K) (F : Nat → Nat → Int32) (v f : Int32) (n : Nat) (hn : n ≤ 100) (h4 : F 0 4 = oN n) : ∃ S, fX4_keepReading K v f (M, g, F) = some (M, g, mup F 0 S) ∧ KS (F 0) S n v f := by
  by_cases c : n = 100
  · subst c
    obtain ⟨S, h1, h2⟩ := keep13 (K := K) (M := M) (g := g) v f 99 K 1 F (by omega) (by omega) (by omega)
    have e99 : F 0 4 - 1 = oN 99 := by rw [h4]; rfl
    rw [e99] at h1
    refine ⟨upd (upd (upd (upd S 4 (oN 99)) (5 + 99) v) (105 + 99) f) 4 (oN (99 + 1)), ?_, ?_⟩
    · unfold fX4_keepReading
      refine (ga_t ⟨by decide, by decide⟩).trans ?_
      show (if F 0 4 = 100 then _ else _) = _
      rw [if_pos (show F 0 4 = 100 by rw [h4]; rfl)]
      refine h1.trans ?_
      refine (keep73 (mup F 0 (upd S 4 (oN 99))) v f 99 (by omega) (by rw [mup_s, upd_e, if_pos rfl])).trans ?_
      rw [mup_mup, mup_s]
    · refine ⟨by rw [if_pos rfl]; rfl, fun k hk => ?_, ?_, ?_, fun k hk => ?_⟩
      · rw [if_pos rfl] at hk ⊢
        constructor
        · rw [upd_e, if_neg (by omega), upd_e, if_neg (by omega), upd_e, if_neg (by omega), upd_e, if_neg (by omega), h2, if_pos (by omega)]
        · rw [upd_e, if_neg (by omega), upd_e, if_neg (by omega), upd_e, if_neg (by omega), upd_e, if_neg (by omega), h2, if_pos (by omega)]
      · rw [if_pos rfl, upd_e, if_neg (by omega), upd_e, if_neg (by omega), upd_e, if_pos rfl]
      · rw [if_pos rfl, upd_e, if_neg (by omega), upd_e, if_pos rfl]
      · rw [upd_e, if_neg (by omega), upd_e, if_neg (by omega), upd_e, if_neg (by omega), upd_e, if_neg (by omega), h2, if_neg (by omega)]
  · refine ⟨upd (upd (upd (F 0) (5 + n) v) (105 + n) f) 4 (oN (n + 1)), ?_, ?_⟩
    · unfold fX4_keepReading
      refine (ga_t ⟨by decide, by decide⟩).trans ?_
      show (if F 0 4 = 100 then _ else _) = _
      rw [if_neg (show ¬ F 0 4 = 100 by rw [h4, eq32, oNi (by omega), k32_100]; omega)]
      exact keep73 F v f n (by omega) h4
    · refine ⟨by rw [if_neg c]; rfl, fun k hk => ?_, ?_, ?_, fun k hk => ?_⟩
      · rw [if_neg c] at hk ⊢
        constructor
        · rw [upd_e, if_neg (by omega), upd_e, if_neg (by omega), upd_e, if_neg (by omega)]; rfl
        · rw [upd_e, if_neg (by omega), upd_e, if_neg (by omega), upd_e, if_neg (by omega)]; rfl
      · rw [if_neg c, upd_e, if_neg (by omega), upd_e, if_neg (by omega), upd_e, if_pos rfl]
      · rw [if_neg c, upd_e, if_neg (by omega), upd_e, if_pos rfl]
      · rw [upd_e, if_neg (by omega), upd_e, if_neg (by omega), upd_e, if_neg (by omega)]
end KEEP
theorem cpy_e {α : Type} (f g : Nat → α) (sp dp n k : Nat) : va_cpy f g sp dp n k = if dp ≤ k ∧ k < dp + n then f (sp + (k - dp)) else g k := rfl
theorem narB {x : Int32} (h : x = 0 ∨ x = 1) : vp_nar .boolean x = x := by
  rcases h with rfl | rfl <;> rfl
/-- a reading is kept, in the State -/
def KX (X X' : Nat → Int32) (XF XF' : Nat → Nat → Int32) (n : Nat) (v : Int32) : Prop :=
  X' 66 = oN ((if n = 100 then 99 else n) + 1) ∧ X' 63 = 0 ∧ (∀ k, k ≠ 66 → k ≠ 63 → X' k = X k) ∧ (∀ k, k < (if n = 100 then 99 else n) → XF' 64 k = XF 64 (k + (if n = 100 then 1 else 0)) ∧ XF' 65 k = XF 65 (k + (if n = 100 then 1 else 0))) ∧ XF' 64 (if n = 100 then 99 else n) = v ∧ XF' 65 (if n = 100 then 99 else n) = X 63 ∧ (∀ k, k < 100 → XF' 65 k = 0 ∨ XF' 65 k = 1) ∧ ∀ k, k ≠ 64 → k ≠ 65 → XF' k = XF k
section REC
variable {K : Nat} {X : Nat → Int32} {XF : Nat → Nat → Int32} {G : Nat → Nat → Int64} {gx : Nat → Int64} {P : Nat → Nat → Option Nat}
theorem rec49 (K : Nat) (v : Int32) (n : Nat) (hn : n ≤ 99) (h6 : X 66 = oN n) (h63 : X 63 = 0 ∨ X 63 = 1) : fX8_record_L49 K v (X, gx, XF, G, P) = some (mup (mup X 66 (oN (n + 1))) 63 0, gx, mup (mup XF 64 (upd (XF 64) n v)) 65 (upd (XF 65) n (X 63)), G, P) := by
  have hi : ix (oN n) 100 := ixN (oNi (by omega)) (by omega)
  unfold fX8_record_L49
  show ga (ix (X 66) 100) (nm (X, gx, mup XF 64 (upd (XF 64) (X 66).toNatClampNeg v), G, P) _) = _
  rw [h6]
  refine (ga_t hi).trans ?_
  rw [nmr]
  show ga (ix (X 66) 100) (nm (X, gx, mup (mup XF 64 (upd (XF 64) (oN n).toNatClampNeg v)) 65 (upd (mup XF 64 (upd (XF 64) (oN n).toNatClampNeg v) 65) (X 66).toNatClampNeg (vp_nar .boolean (X 63))), G, P) _) = _
  rw [h6]
  refine (ga_t hi).trans ?_
  rw [nmr, nmr, nmr]
  show some (mup (mup X 66 (X 66 + 1)) 63 0, gx, mup (mup XF 64 (upd (XF 64) (oN n).toNatClampNeg v)) 65 (upd (mup XF 64 (upd (XF 64) (oN n).toNatClampNeg v) 65) (oN n).toNatClampNeg (vp_nar .boolean (X 63))), G, P) = _
  rw [h6, oNn (by omega), oN_s (by omega), narB h63, mup_n XF _ (show (65 : Nat) ≠ 64 by decide)]
theorem recX (K : Nat) (v : Int32) (n : Nat) (hn : n ≤ 100) (h6 : X 66 = oN n) (h63 : X 63 = 0 ∨ X 63 = 1) (hB : ∀ k, k < 100 → XF 65 k = 0 ∨ XF 65 k = 1) : ∃ X' XF', fX8_record K v (X, gx, XF, G, P) = some (X', gx, XF', G, P) ∧ KX X X' XF XF' n v := by
  by_cases c : n = 100
  · subst c
    refine ⟨mup (mup (mup X 66 (oN 99)) 66 (oN (99 + 1))) 63 0, mup (mup (mup (mup XF 64 (va_cpy (XF 64) (XF 64) 1 0 99)) 65 (va_cpy (XF 65) (XF 65) 1 0 99)) 64 (upd (va_cpy (XF 64) (XF 64) 1 0 99) 99 v)) 65 (upd (va_cpy (XF 65) (XF 65) 1 0 99) 99 (X 63)), ?_, ?_⟩
    · unfold fX8_record
      rw [if_pos (show X 66 = 100 by rw [h6]; rfl)]
      refine (ga_t (by decide)).trans ?_
      rw [nmr]
      refine (ga_t (by decide)).trans ?_
      refine (gaP_t fun i hi => fitsB (hB _ (by have : i < 99 := hi; show 1 + i < 100; omega))).trans ?_
      rw [nmr, nmr]
      have e9 : X 66 - 1 = oN 99 := by rw [h6]; rfl
      show fX8_record_L49 K v (mup X 66 (X 66 - 1), gx, mup (mup XF 64 (va_cpy (XF 64) (XF 64) 1 0 99)) 65 (va_cpy (mup XF 64 (va_cpy (XF 64) (XF 64) 1 0 99) 65) (mup XF 64 (va_cpy (XF 64) (XF 64) 1 0 99) 65) 1 0 99), G, P) = _
      rw [e9, mup_n XF _ (show (65 : Nat) ≠ 64 by decide), rec49 K v 99 (by omega) (mup_s _ _ _) (by rw [mup_n _ _ (by decide)]; exact h63)]
      rw [mup_n X _ (show (63 : Nat) ≠ 66 by decide), mup_s, mup_n _ _ (show (64 : Nat) ≠ 65 by decide), mup_s]
    · refine ⟨?_, ?_, fun k a b => ?_, fun k hk => ?_, ?_, ?_, fun k hk => ?_, fun k a b => ?_⟩
      · rw [mup_n _ _ (by decide), mup_s]; rfl
      · rw [mup_s]
      · rw [mup_n _ _ b, mup_n _ _ a, mup_n _ _ a]
      · rw [if_pos rfl] at hk ⊢
        rw [mup_n _ _ (show (64 : Nat) ≠ 65 by decide), mup_s, mup_s, upd_e, upd_e, if_neg (by omega), if_neg (by omega), cpy_e, cpy_e, if_pos (by omega), if_pos (by omega)]
        constructor <;> (congr 1; omega)
      · rw [if_pos rfl, mup_n _ _ (show (64 : Nat) ≠ 65 by decide), mup_s, upd_e, if_pos rfl]
      · rw [if_pos rfl, mup_s, upd_e, if_pos rfl]
      · rw [mup_s, upd_e]
        split
        · exact h63
        · rw [cpy_e]
          split
          · exact hB _ (by omega)
          · exact hB _ hk
      · rw [mup_n _ _ b, mup_n _ _ a, mup_n _ _ b, mup_n _ _ a]
  · refine ⟨mup (mup X 66 (oN (n + 1))) 63 0, mup (mup XF 64 (upd (XF 64) n v)) 65 (upd (XF 65) n (X 63)), ?_, ?_⟩
    · unfold fX8_record
      rw [if_neg (show ¬ X 66 = 100 by rw [h6, eq32, oNi (by omega), k32_100]; omega)]
      exact rec49 K v n (by omega) h6 h63
    · refine ⟨?_, ?_, fun k a b => ?_, fun k hk => ?_, ?_, ?_, fun k hk => ?_, fun k a b => ?_⟩
      · rw [if_neg c, mup_n _ _ (by decide), mup_s]
      · rw [mup_s]
      · rw [mup_n _ _ b, mup_n _ _ a]
      · rw [if_neg c] at hk
        rw [if_neg c, mup_n _ _ (show (64 : Nat) ≠ 65 by decide), mup_s, mup_s, upd_e, upd_e, if_neg (by omega), if_neg (by omega)]
        exact ⟨rfl, rfl⟩
      · rw [if_neg c, mup_n _ _ (show (64 : Nat) ≠ 65 by decide), mup_s, upd_e, if_pos rfl]
      · rw [if_neg c, mup_s, upd_e, if_pos rfl]
      · rw [mup_s, upd_e]
        split
        · exact h63
        · exact hB _ hk
      · rw [mup_n _ _ b, mup_n _ _ a]
end REC
/-- a reading kept on both sides -/
theorem SR.keep {S S' X X' XF XF'} (h : SR S X XF) {n : Nat} (hn : n ≤ 100) (h4 : S 4 = oN n) {v : Int32} (hv : 0 ≤ v.toInt ∧ v.toInt ≤ 99999) (a : KS S S' n v (S 3)) (b : KX X X' XF XF' n v) : SR (upd S' 3 0) X' XF' := by
  obtain ⟨a1, a2, a3, a4, a5⟩ := a
  obtain ⟨b1', b2', b3, b4, b5, b6, b7, b8⟩ := b
  have hc : (if n = 100 then 99 else n) ≤ 99 := by split <;> omega
  have hcs : ∀ k, k < (if n = 100 then 99 else n) → k + (if n = 100 then 1 else 0) < n := by
    intro k hk
    by_cases c : n = 100
    · rw [if_pos c] at hk ⊢; omega
    · rw [if_neg c] at hk ⊢; omega
  have u : ∀ k, k ≠ 3 → upd S' 3 0 k = S' k := fun k hk => by rw [upd_e, if_neg hk]
  generalize (if n = 100 then 99 else n) = c at *
  generalize (if n = 100 then 1 else 0) = s at *
  have ec : (oN (c + 1)).toInt = (c + 1 : Nat) := oNi (by omega)
  have en : (S 4).toInt = n := by rw [h4]; exact oNi (by omega)
  refine SR.mk ?_ ?_ ?_ ?_ ?_ ?_ ?_ ?_ ?_ ?_ ?_ ?_ ?_ b7
  · rw [u 0 (by decide), a5 0 (by omega), b3 60 (by decide) (by decide)]; exact h.fq
  · rw [u 1 (by decide), a5 1 (by omega), b3 61 (by decide) (by decide)]; exact h.st
  · rw [u 2 (by decide), a5 2 (by omega), b3 62 (by decide) (by decide)]; exact h.ht
  · rw [b2', upd_e, if_pos rfl]
  · rw [u 4 (by decide), a1, b1']
  · intro k hk
    rw [u 4 (by decide), a1, ec] at hk
    rw [u _ (by omega)]
    by_cases ck : k = c
    · subst ck; rw [a3, b5]
    · rw [(a2 k (by omega)).1, (b4 k (by omega)).1, Nat.add_assoc]
      exact h.rd _ (by have := hcs k (by omega); omega)
  · intro k hk
    rw [u 4 (by decide), a1, ec] at hk
    rw [u _ (by omega)]
    by_cases ck : k = c
    · subst ck; rw [a4, b6]; exact h.ch
    · rw [(a2 k (by omega)).2, (b4 k (by omega)).2, Nat.add_assoc]
      exact h.fs _ (by have := hcs k (by omega); omega)
  · rw [u 0 (by decide), a5 0 (by omega)]; exact h.v_fq
  · rw [u 1 (by decide), a5 1 (by omega)]; exact h.v_st
  · rw [u 2 (by decide), a5 2 (by omega)]; exact h.v_ht
  · rw [upd_e, if_pos rfl]; exact Or.inl rfl
  · rw [u 4 (by decide), a1, ec]; omega
  · intro k hk
    rw [u 4 (by decide), a1, ec] at hk
    rw [u _ (by omega)]
    by_cases ck : k = c
    · subst ck; rw [a3]; exact hv
    · rw [(a2 k (by omega)).1, Nat.add_assoc]
      exact h.v_rd _ (by have := hcs k (by omega); omega)
