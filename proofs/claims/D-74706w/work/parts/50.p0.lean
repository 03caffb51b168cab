/-! plain law: numbers, root, interpolation -/
set_option maxRecDepth 100000
theorem a64 {a b : Int64} (h1 : -9223372036854775808 ≤ a.toInt + b.toInt) (h2 : a.toInt + b.toInt ≤ 9223372036854775807) : (a + b).toInt = a.toInt + b.toInt := by
  rw [Int64.toInt_add]; exact Int.bmod_eq_of_le (by omega) (by omega)
theorem s64 {a b : Int64} (h1 : -9223372036854775808 ≤ a.toInt - b.toInt) (h2 : a.toInt - b.toInt ≤ 9223372036854775807) : (a - b).toInt = a.toInt - b.toInt := by
  rw [Int64.toInt_sub]; exact Int.bmod_eq_of_le (by omega) (by omega)
theorem m64 {a b : Int64} (h1 : -9223372036854775808 ≤ a.toInt * b.toInt) (h2 : a.toInt * b.toInt ≤ 9223372036854775807) : (a * b).toInt = a.toInt * b.toInt := by
  rw [Int64.toInt_mul]; exact Int.bmod_eq_of_le (by omega) (by omega)
theorem n64 {a : Int64} (h1 : -9223372036854775807 ≤ a.toInt) : (-a).toInt = -a.toInt := by
  rw [Int64.toInt_neg]; have : a.toInt ≤ 9223372036854775807 := a.toInt_le; exact Int.bmod_eq_of_le (by omega) (by omega)
theorem d64 {a b : Int64} (h : 0 < b.toInt) : (a / b).toInt = a.toInt.tdiv b.toInt := by
  rw [Int64.toInt_div]
  have h1 : a.toInt ≤ 9223372036854775807 := a.toInt_le
  have h2 : -9223372036854775808 ≤ a.toInt := a.le_toInt
  have h3 : (a.toInt.tdiv b.toInt).natAbs ≤ a.toInt.natAbs := by
    rw [Int.natAbs_tdiv]; exact Nat.div_le_self _ _
  by_cases hb : b.toInt = 1
  · rw [hb, Int.tdiv_one]; exact Int.bmod_eq_of_le (by omega) (by omega)
  · by_cases h4 : a.toInt = -9223372036854775808
    · have : (a.toInt.tdiv b.toInt).natAbs ≤ 9223372036854775808 / 2 := by
        rw [Int.natAbs_tdiv, h4]
        exact Nat.div_le_div_left (by omega) (by omega)
      exact Int.bmod_eq_of_le (by omega) (by omega)
    · exact Int.bmod_eq_of_le (by omega) (by omega)
theorem a32 {a b : Int32} (h1 : -2147483648 ≤ a.toInt + b.toInt) (h2 : a.toInt + b.toInt ≤ 2147483647) : (a + b).toInt = a.toInt + b.toInt := by
  rw [Int32.toInt_add]; exact Int.bmod_eq_of_le (by omega) (by omega)
theorem s32 {a b : Int32} (h1 : -2147483648 ≤ a.toInt - b.toInt) (h2 : a.toInt - b.toInt ≤ 2147483647) : (a - b).toInt = a.toInt - b.toInt := by
  rw [Int32.toInt_sub]; exact Int.bmod_eq_of_le (by omega) (by omega)
theorem m32 {a b : Int32} (h1 : -2147483648 ≤ a.toInt * b.toInt) (h2 : a.toInt * b.toInt ≤ 2147483647) : (a * b).toInt = a.toInt * b.toInt := by
  rw [Int32.toInt_mul]; exact Int.bmod_eq_of_le (by omega) (by omega)
theorem d32 {a b : Int32} (h : 0 < b.toInt) : (a / b).toInt = a.toInt.tdiv b.toInt := by
  rw [Int32.toInt_div]
  have h1 : a.toInt ≤ 2147483647 := a.toInt_le
  have h2 : -2147483648 ≤ a.toInt := a.le_toInt
  have h3 : (a.toInt.tdiv b.toInt).natAbs ≤ a.toInt.natAbs := by
    rw [Int.natAbs_tdiv]; exact Nat.div_le_self _ _
  by_cases hb : b.toInt = 1
  · rw [hb, Int.tdiv_one]; exact Int.bmod_eq_of_le (by omega) (by omega)
  · by_cases h4 : a.toInt = -2147483648
    · have : (a.toInt.tdiv b.toInt).natAbs ≤ 2147483648 / 2 := by
        rw [Int.natAbs_tdiv, h4]
        exact Nat.div_le_div_left (by omega) (by omega)
      exact Int.bmod_eq_of_le (by omega) (by omega)
    · exact Int.bmod_eq_of_le (by omega) (by omega)
theorem lt64 {a b : Int64} : a < b ↔ a.toInt < b.toInt := Int64.lt_iff_toInt_lt
theorem le64 {a b : Int64} : a ≤ b ↔ a.toInt ≤ b.toInt := Int64.le_iff_toInt_le
theorem lt32 {a b : Int32} : a < b ↔ a.toInt < b.toInt := Int32.lt_iff_toInt_lt
theorem le32 {a b : Int32} : a ≤ b ↔ a.toInt ≤ b.toInt := Int32.le_iff_toInt_le
theorem eq64 {a b : Int64} : a = b ↔ a.toInt = b.toInt := Int64.toInt_inj.symm
theorem eq32 {a b : Int32} : a = b ↔ a.toInt = b.toInt := Int32.toInt_inj.symm
theorem w64 (a : Int32) : a.toInt64.toInt = a.toInt := Int32.toInt_toInt64 a
theorem nn32 {a : Int32} (h : 0 ≤ a.toInt) : (a.toNatClampNeg : Int) = a.toInt := by
  rw [Int32.toNatClampNeg, Int.toNat_of_nonneg h]
theorem u32 (a : Int32) : a.toInt ≤ 2147483647 := a.toInt_le
theorem v32 (a : Int32) : -2147483648 ≤ a.toInt := a.le_toInt
theorem u64 (a : Int64) : a.toInt ≤ 9223372036854775807 := a.toInt_le
theorem v64 (a : Int64) : -9223372036854775808 ≤ a.toInt := a.le_toInt
theorem ga_t {α : Type} {b : Prop} [Decidable b] {x : Option α} (h : b) : ga b x = x := by unfold ga; rw [if_pos h]
theorem b1_e {α β : Type} {x : Option α} {k : α → Option β} {v : α} (h : x = some v) : b1 x k = k v := by subst h; rfl
theorem b2_e {α β γ : Type} {x : Option (α × β)} {k : α → β → Option γ} {v : α} {w : β} (h : x = some (v, w)) : b2 x k = k v w := by subst h; rfl
/-! the root -/
theorem tdiv2 (a : Int) (h : 0 ≤ a) : a.tdiv 2 = a / 2 := Int.tdiv_eq_ediv_of_nonneg h
theorem rootX (K n : Nat) (x lo hi : Int64) : fX0_root_L7 K n x lo hi = fX4_root_L7 0 n x lo hi := by
  induction n generalizing lo hi with
  | zero => rfl
  | succ n ih => simp only [fX0_root_L7, fX4_root_L7, nm, ih]
theorem rootK (K n : Nat) (x lo hi : Int64) : fX4_root_L7 K n x lo hi = fX4_root_L7 0 n x lo hi := by
  induction n generalizing lo hi with
  | zero => rfl
  | succ n ih => simp only [fX4_root_L7, nm, ih]
theorem root_any (x : Int64) (n : Nat) : ∀ (lo hi : Int64), 0 ≤ lo.toInt → lo.toInt ≤ hi.toInt → hi.toInt ≤ 3037000499 → hi.toInt - lo.toInt < 2 ^ n → ∃ r : Int64, 0 ≤ r.toInt ∧ r.toInt ≤ 3037000499 ∧ ∀ m, n + 1 ≤ m → fX4_root_L7 0 m x lo hi = some r := by
  induction n with
  | zero =>
    intro lo hi h0 h1 h2 h3
    have h4 : hi = lo := eq64.mpr (by omega)
    subst h4
    refine ⟨hi, h0, h2, fun m hm => ?_⟩
    obtain ⟨m, rfl⟩ : ∃ k, m = k + 1 := ⟨m - 1, by omega⟩
    rw [fX4_root_L7, if_pos (le64.mpr (Int.le_refl _))]
  | succ n ih =>
    intro lo hi h0 h1 h2 h3
    by_cases h4 : hi.toInt ≤ lo.toInt
    · refine ⟨lo, h0, by omega, fun m hm => ?_⟩
      obtain ⟨m, rfl⟩ : ∃ k, m = k + 1 := ⟨m - 1, by omega⟩
      rw [fX4_root_L7, if_pos (le64.mpr h4)]
    · have e1 : (lo + hi).toInt = lo.toInt + hi.toInt := a64 (by omega) (by omega)
      have e2 : (lo + hi + 1).toInt = lo.toInt + hi.toInt + 1 := by
        rw [a64, e1]
        · rfl
        · rw [e1]; show _ ≤ _ + (1 : Int); omega
        · rw [e1]; show _ + (1 : Int) ≤ _; omega
      have e3 : ((lo + hi + 1) / 2).toInt = (lo.toInt + hi.toInt + 1) / 2 := by
        rw [d64 (by decide), e2]
        exact tdiv2 _ (by omega)
      have p2 : (2 : Int) ^ (n + 1) = 2 * 2 ^ n := by rw [Int.pow_succ, Int.mul_comm]
      by_cases h5 : x < ((lo + hi + 1) / 2) * ((lo + hi + 1) / 2)
      · have e4 : ((lo + hi + 1) / 2 - 1).toInt = (lo.toInt + hi.toInt + 1) / 2 - 1 := by
          rw [s64, e3]
          · rfl
          · rw [e3]; show _ ≤ _ - (1 : Int); omega
          · rw [e3]; show _ - (1 : Int) ≤ _; omega
        obtain ⟨r, r1, r2, r3⟩ := ih lo ((lo + hi + 1) / 2 - 1) h0 (by omega) (by omega) (by omega)
        refine ⟨r, r1, r2, fun m hm => ?_⟩
        obtain ⟨m, rfl⟩ : ∃ k, m = k + 1 := ⟨m - 1, by omega⟩
        rw [fX4_root_L7, if_neg (fun q => h4 (le64.mp q))]
        simp only [nm]
        rw [if_pos h5]
        exact r3 m (by omega)
      · obtain ⟨r, r1, r2, r3⟩ := ih ((lo + hi + 1) / 2) hi (by omega) (by omega) (by omega) (by omega)
        refine ⟨r, r1, r2, fun m hm => ?_⟩
        obtain ⟨m, rfl⟩ : ∃ k, m = k + 1 := ⟨m - 1, by omega⟩
        rw [fX4_root_L7, if_neg (fun q => h4 (le64.mp q))]
        simp only [nm]
        rw [if_neg h5]
        exact r3 m (by omega)
def rt (x : Int64) : Int64 := (fX4_root_L7 0 33 x 0 3037000499).getD 0
theorem rt_all (x : Int64) : 0 ≤ (rt x).toInt ∧ (rt x).toInt ≤ 3037000499 ∧ ∀ m, 33 ≤ m → fX4_root_L7 0 m x 0 3037000499 = some (rt x) := by
  obtain ⟨r, r1, r2, r3⟩ := root_any x 32 0 3037000499 (by decide) (by decide) (by decide) (by decide)
  have : rt x = r := by unfold rt; rw [r3 33 (by omega)]; rfl
  rw [this]
  exact ⟨r1, r2, r3⟩
theorem rtM {K : Nat} (hK : 33 ≤ K) (x : Int64) : fX4_root K x = some (rt x) := by
  unfold fX4_root; rw [rootK]; exact (rt_all x).2.2 K hK
theorem rtX {K : Nat} (hK : 33 ≤ K) (x : Int64) : fX0_root K x = some (rt x) := by
  unfold fX0_root; rw [rootX]; exact (rt_all x).2.2 K hK
/-! bounds -/
def cl (v lo hi : Int64) : Int64 := if lo ≤ v then (if v ≤ hi then v else hi) else lo
theorem clM (K : Nat) (v lo hi : Int64) : fX4_clamp K v lo hi = some (cl v lo hi) := by
  unfold fX4_clamp cl; split <;> (try split) <;> rfl
theorem clX (K : Nat) (v : Int64) : fX1_limited K v = some (cl v (-1000000000) 1000000000) := by
  unfold fX1_limited cl
  simp only [nm]
  congr 1
  have e1 : (1000000000 : Int64).toInt = 1000000000 := by decide
  have e2 : (-1000000000 : Int64).toInt = -1000000000 := by decide
  simp only [lt64, le64, eq64, e1, e2]
  repeat' split
  all_goals first | rfl | (simp only [eq64, e1, e2, lt64, le64] at *; omega) | (exfalso; simp only [eq64, e1, e2, lt64, le64] at *; omega)
theorem cl_b {v lo hi : Int64} (h : lo.toInt ≤ hi.toInt) : lo.toInt ≤ (cl v lo hi).toInt ∧ (cl v lo hi).toInt ≤ hi.toInt := by
  unfold cl
  split
  · split
    · rename_i h1 h2; exact ⟨le64.mp h1, le64.mp h2⟩
    · exact ⟨h, Int.le_refl _⟩
  · exact ⟨Int.le_refl _, h⟩
theorem cl_n {v lo hi : Int64} (h : lo.toInt ≤ hi.toInt) (h1 : 0 ≤ v.toInt) (h2 : 0 ≤ hi.toInt) : 0 ≤ (cl v lo hi).toInt := by
  unfold cl
  split
  · split
    · exact h1
    · exact h2
  · rename_i h3; rw [le64] at h3; omega
theorem isInM (K : Nat) (v lo hi : Int64) : fX4_isIn K v lo hi = some (decide (lo.toInt ≤ v.toInt ∧ v.toInt ≤ hi.toInt)) := by
  unfold fX4_isIn
  simp only [lt64]
  split
  · rw [decide_eq_false (by omega)]
  · split
    · rw [decide_eq_false (by omega)]
    · rw [decide_eq_true (by omega)]
theorem isInX (K : Nat) (v lo hi : Int32) : fX0_isIn K v lo hi = some (decide (lo.toInt ≤ v.toInt ∧ v.toInt ≤ hi.toInt)) := by
  unfold fX0_isIn
  simp only [lt32]
  split
  · rw [decide_eq_false (by omega)]
  · split
    · rw [decide_eq_false (by omega)]
    · rw [decide_eq_true (by omega)]
theorem isFreqM (K : Nat) (f : Int32) : fX4_isFrequency K f = some (decide (1500 ≤ f.toInt ∧ f.toInt ≤ 30000)) := by
  unfold fX4_isFrequency
  rw [b1_e (isInM K _ _ _), w64]; rfl
theorem isFreqX (K : Nat) (f : Int32) : fX0_isFrequency K f = some (decide (1500 ≤ f.toInt ∧ f.toInt ≤ 30000)) := by
  unfold fX0_isFrequency
  rw [b1_e (isInX K _ _ _)]; rfl
theorem isSetX (K : Nat) (f : Int32) : fX0_isSetting K f = some (decide (0 ≤ f.toInt ∧ f.toInt ≤ 63)) := by
  unfold fX0_isSetting
  rw [b1_e (isInX K _ _ _)]; rfl
theorem areM (K : Nat) (a b c : Int32) : fX4_areSettings K a b c = some (decide ((0 ≤ a.toInt ∧ a.toInt ≤ 1) ∧ (0 ≤ b.toInt ∧ b.toInt ≤ 63) ∧ (0 ≤ c.toInt ∧ c.toInt ≤ 63))) := by
  unfold fX4_areSettings
  rw [b1_e (isInM K _ _ _), w64]
  show (if decide (0 ≤ a.toInt ∧ a.toInt ≤ 1) = true then _ else _) = _
  by_cases h1 : 0 ≤ a.toInt ∧ a.toInt ≤ 1
  · rw [if_pos (by simpa using h1), b1_e (isInM K _ _ _), w64]
    show (if decide (0 ≤ b.toInt ∧ b.toInt ≤ 63) = true then _ else _) = _
    by_cases h2 : 0 ≤ b.toInt ∧ b.toInt ≤ 63
    · rw [if_pos (by simpa using h2), b1_e (isInM K _ _ _), w64]
      show (if decide (0 ≤ c.toInt ∧ c.toInt ≤ 63) = true then _ else _) = _
      by_cases h3 : 0 ≤ c.toInt ∧ c.toInt ≤ 63
      · rw [if_pos (by simpa using h3), decide_eq_true (by omega)]
      · rw [if_neg (by simpa using h3), decide_eq_false (by omega)]
    · rw [if_neg (by simpa using h2), decide_eq_false (by omega)]
  · rw [if_neg (by simpa using h1), decide_eq_false (by omega)]
theorem readyX (K : Nat) (μ : XS) : fX0_isReady K μ = some (true, μ) := rfl
theorem areX (K : Nat) (a b c : Int32) (μ : XS) : fX0_areSettings K a b c μ = some (decide ((0 ≤ a.toInt ∧ a.toInt ≤ 1) ∧ (0 ≤ b.toInt ∧ b.toInt ≤ 63) ∧ (0 ≤ c.toInt ∧ c.toInt ≤ 63)), μ) := by
  unfold fX0_areSettings
  rw [b2_e (readyX K μ), if_pos rfl, b1_e (isInX K _ _ _)]
  show (if decide (0 ≤ a.toInt ∧ a.toInt ≤ 1) = true then _ else _) = _
  by_cases h1 : 0 ≤ a.toInt ∧ a.toInt ≤ 1
  · rw [if_pos (by simpa using h1), b1_e (isSetX K _)]
    show (if decide (0 ≤ b.toInt ∧ b.toInt ≤ 63) = true then _ else _) = _
    by_cases h2 : 0 ≤ b.toInt ∧ b.toInt ≤ 63
    · rw [if_pos (by simpa using h2), b1_e (isSetX K _)]
      show (if decide (0 ≤ c.toInt ∧ c.toInt ≤ 63) = true then _ else _) = _
      by_cases h3 : 0 ≤ c.toInt ∧ c.toInt ≤ 63
      · rw [if_pos (by simpa using h3), decide_eq_true (by omega)]
      · rw [if_neg (by simpa using h3), decide_eq_false (by omega)]
    · rw [if_neg (by simpa using h2), decide_eq_false (by omega)]
  · rw [if_neg (by simpa using h1), decide_eq_false (by omega)]
/-! the tuner -/
abbrev nO (x : Int32) : Nat := x.toNatClampNeg
abbrev oN (n : Nat) : Int32 := Int32.ofNat n
theorem oNi {n : Nat} (h : n < 2147483648) : (oN n).toInt = n := Int32.toInt_ofNat_of_lt h
theorem oNn {n : Nat} (h : n < 2147483648) : (oN n).toNatClampNeg = n := by
  rw [Int32.toNatClampNeg, oNi h]; rfl
theorem oN_of {x : Int32} {n : Nat} (h : x.toInt = n) : x = oN n := by
  have := u32 x
  rw [eq32, oNi (by omega), h]
theorem oN_s {n : Nat} (h : n + 1 < 2147483648) : oN n + 1 = oN (n + 1) := by
  apply oN_of
  have e : (oN n).toInt = n := oNi (by omega)
  have e1 : (1 : Int32).toInt = 1 := rfl
  rw [a32, e, e1]
  · rfl
  · omega
  · omega
def TR (M : Nat → Int32) (F : Nat → Nat → Int32) (X : Nat → Int32) (XF : Nat → Nat → Int32) (G : Nat → Nat → Int64) : Prop :=
  (X 40 = M 4) ∧
  (X 41 = M 5) ∧
  (X 42 = M 6) ∧
  (X 43 = M 7) ∧
  (X 44 = M 8) ∧
  (X 45 = M 9) ∧
  (X 49 = M 10) ∧
  (X 52 = M 14) ∧
  (∀ k : Nat, (k : Int) < (M 10).toInt → XF 46 k = F 11 k) ∧
  (∀ k : Nat, (k : Int) < (M 10).toInt → G 47 k = (F 12 k).toInt64) ∧
  (∀ k : Nat, (k : Int) < (M 10).toInt → G 48 k = (F 13 k).toInt64) ∧
  (∀ k : Nat, (k : Int) < (M 14).toInt → XF 50 k = F 15 k) ∧
  (∀ k : Nat, (k : Int) < (M 14).toInt → XF 51 k = F 16 k) ∧
  (10 ≤ (M 4).toInt ∧ (M 4).toInt ≤ 500) ∧
  (20 ≤ (M 5).toInt ∧ (M 5).toInt ≤ 500) ∧
  (1 ≤ (M 6).toInt ∧ (M 6).toInt ≤ 50) ∧
  (1 ≤ (M 7).toInt ∧ (M 7).toInt ≤ 1500) ∧
  (100 ≤ (M 8).toInt ∧ (M 8).toInt ≤ 5000) ∧
  (101 ≤ (M 9).toInt ∧ (M 9).toInt ≤ 1000) ∧
  (1 ≤ (M 10).toInt ∧ (M 10).toInt ≤ 16) ∧
  (0 ≤ (M 14).toInt ∧ (M 14).toInt ≤ 8) ∧
  (∀ k : Nat, (k : Int) < (M 10).toInt → 1500 ≤ (F 11 k).toInt ∧ (F 11 k).toInt ≤ 30000) ∧
  (∀ k : Nat, (k : Int) + 1 < (M 10).toInt → (F 11 k).toInt < (F 11 (k + 1)).toInt) ∧
  (∀ k : Nat, (k : Int) < (M 10).toInt → 1000 ≤ (F 12 k).toInt ∧ (F 12 k).toInt ≤ 3000000) ∧
  (∀ k : Nat, (k : Int) < (M 10).toInt → -3000000 ≤ (F 13 k).toInt ∧ (F 13 k).toInt ≤ 3000000) ∧
  (∀ k : Nat, (k : Int) < (M 14).toInt → 1500 ≤ (F 15 k).toInt ∧ (F 15 k).toInt ≤ (F 16 k).toInt ∧ (F 16 k).toInt ≤ 30000)
theorem TR.ind {M : Nat → Int32} {F : Nat → Nat → Int32} {X : Nat → Int32} {XF : Nat → Nat → Int32} {G : Nat → Nat → Int64} (h : TR M F X XF G) : X 40 = M 4 := h.1
theorem TR.qual {M : Nat → Int32} {F : Nat → Nat → Int32} {X : Nat → Int32} {XF : Nat → Nat → Int32} {G : Nat → Nat → Int64} (h : TR M F X XF G) : X 41 = M 5 := h.2.1
theorem TR.cap {M : Nat → Int32} {F : Nat → Nat → Int32} {X : Nat → Int32} {XF : Nat → Nat → Int32} {G : Nat → Nat → Int64} (h : TR M F X XF G) : X 42 = M 6 := h.2.2.1
theorem TR.pow {M : Nat → Int32} {F : Nat → Nat → Int32} {X : Nat → Int32} {XF : Nat → Nat → Int32} {G : Nat → Nat → Int64} (h : TR M F X XF G) : X 43 = M 7 := h.2.2.2.1
theorem TR.rat {M : Nat → Int32} {F : Nat → Nat → Int32} {X : Nat → Int32} {XF : Nat → Nat → Int32} {G : Nat → Nat → Int64} (h : TR M F X XF G) : X 44 = M 8 := h.2.2.2.2.1
theorem TR.gsw {M : Nat → Int32} {F : Nat → Nat → Int32} {X : Nat → Int32} {XF : Nat → Nat → Int32} {G : Nat → Nat → Int64} (h : TR M F X XF G) : X 45 = M 9 := h.2.2.2.2.2.1
theorem TR.pts {M : Nat → Int32} {F : Nat → Nat → Int32} {X : Nat → Int32} {XF : Nat → Nat → Int32} {G : Nat → Nat → Int64} (h : TR M F X XF G) : X 49 = M 10 := h.2.2.2.2.2.2.1
theorem TR.bds {M : Nat → Int32} {F : Nat → Nat → Int32} {X : Nat → Int32} {XF : Nat → Nat → Int32} {G : Nat → Nat → Int64} (h : TR M F X XF G) : X 52 = M 14 := h.2.2.2.2.2.2.2.1
theorem TR.fr {M : Nat → Int32} {F : Nat → Nat → Int32} {X : Nat → Int32} {XF : Nat → Nat → Int32} {G : Nat → Nat → Int64} (h : TR M F X XF G) : ∀ k : Nat, (k : Int) < (M 10).toInt → XF 46 k = F 11 k := h.2.2.2.2.2.2.2.2.1
theorem TR.re {M : Nat → Int32} {F : Nat → Nat → Int32} {X : Nat → Int32} {XF : Nat → Nat → Int32} {G : Nat → Nat → Int64} (h : TR M F X XF G) : ∀ k : Nat, (k : Int) < (M 10).toInt → G 47 k = (F 12 k).toInt64 := h.2.2.2.2.2.2.2.2.2.1
theorem TR.xe {M : Nat → Int32} {F : Nat → Nat → Int32} {X : Nat → Int32} {XF : Nat → Nat → Int32} {G : Nat → Nat → Int64} (h : TR M F X XF G) : ∀ k : Nat, (k : Int) < (M 10).toInt → G 48 k = (F 13 k).toInt64 := h.2.2.2.2.2.2.2.2.2.2.1
theorem TR.bl {M : Nat → Int32} {F : Nat → Nat → Int32} {X : Nat → Int32} {XF : Nat → Nat → Int32} {G : Nat → Nat → Int64} (h : TR M F X XF G) : ∀ k : Nat, (k : Int) < (M 14).toInt → XF 50 k = F 15 k := h.2.2.2.2.2.2.2.2.2.2.2.1
theorem TR.bh {M : Nat → Int32} {F : Nat → Nat → Int32} {X : Nat → Int32} {XF : Nat → Nat → Int32} {G : Nat → Nat → Int64} (h : TR M F X XF G) : ∀ k : Nat, (k : Int) < (M 14).toInt → XF 51 k = F 16 k := h.2.2.2.2.2.2.2.2.2.2.2.2.1
theorem TR.v_ind {M : Nat → Int32} {F : Nat → Nat → Int32} {X : Nat → Int32} {XF : Nat → Nat → Int32} {G : Nat → Nat → Int64} (h : TR M F X XF G) : 10 ≤ (M 4).toInt ∧ (M 4).toInt ≤ 500 := h.2.2.2.2.2.2.2.2.2.2.2.2.2.1
theorem TR.v_qual {M : Nat → Int32} {F : Nat → Nat → Int32} {X : Nat → Int32} {XF : Nat → Nat → Int32} {G : Nat → Nat → Int64} (h : TR M F X XF G) : 20 ≤ (M 5).toInt ∧ (M 5).toInt ≤ 500 := h.2.2.2.2.2.2.2.2.2.2.2.2.2.2.1
theorem TR.v_cap {M : Nat → Int32} {F : Nat → Nat → Int32} {X : Nat → Int32} {XF : Nat → Nat → Int32} {G : Nat → Nat → Int64} (h : TR M F X XF G) : 1 ≤ (M 6).toInt ∧ (M 6).toInt ≤ 50 := h.2.2.2.2.2.2.2.2.2.2.2.2.2.2.2.1
theorem TR.v_pow {M : Nat → Int32} {F : Nat → Nat → Int32} {X : Nat → Int32} {XF : Nat → Nat → Int32} {G : Nat → Nat → Int64} (h : TR M F X XF G) : 1 ≤ (M 7).toInt ∧ (M 7).toInt ≤ 1500 := h.2.2.2.2.2.2.2.2.2.2.2.2.2.2.2.2.1
theorem TR.v_rat {M : Nat → Int32} {F : Nat → Nat → Int32} {X : Nat → Int32} {XF : Nat → Nat → Int32} {G : Nat → Nat → Int64} (h : TR M F X XF G) : 100 ≤ (M 8).toInt ∧ (M 8).toInt ≤ 5000 := h.2.2.2.2.2.2.2.2.2.2.2.2.2.2.2.2.2.1
theorem TR.v_gsw {M : Nat → Int32} {F : Nat → Nat → Int32} {X : Nat → Int32} {XF : Nat → Nat → Int32} {G : Nat → Nat → Int64} (h : TR M F X XF G) : 101 ≤ (M 9).toInt ∧ (M 9).toInt ≤ 1000 := h.2.2.2.2.2.2.2.2.2.2.2.2.2.2.2.2.2.2.1
theorem TR.v_pts {M : Nat → Int32} {F : Nat → Nat → Int32} {X : Nat → Int32} {XF : Nat → Nat → Int32} {G : Nat → Nat → Int64} (h : TR M F X XF G) : 1 ≤ (M 10).toInt ∧ (M 10).toInt ≤ 16 := h.2.2.2.2.2.2.2.2.2.2.2.2.2.2.2.2.2.2.2.1
theorem TR.v_bds {M : Nat → Int32} {F : Nat → Nat → Int32} {X : Nat → Int32} {XF : Nat → Nat → Int32} {G : Nat → Nat → Int64} (h : TR M F X XF G) : 0 ≤ (M 14).toInt ∧ (M 14).toInt ≤ 8 := h.2.2.2.2.2.2.2.2.2.2.2.2.2.2.2.2.2.2.2.2.1
theorem TR.v_fr {M : Nat → Int32} {F : Nat → Nat → Int32} {X : Nat → Int32} {XF : Nat → Nat → Int32} {G : Nat → Nat → Int64} (h : TR M F X XF G) : ∀ k : Nat, (k : Int) < (M 10).toInt → 1500 ≤ (F 11 k).toInt ∧ (F 11 k).toInt ≤ 30000 := h.2.2.2.2.2.2.2.2.2.2.2.2.2.2.2.2.2.2.2.2.2.1
theorem TR.v_asc {M : Nat → Int32} {F : Nat → Nat → Int32} {X : Nat → Int32} {XF : Nat → Nat → Int32} {G : Nat → Nat → Int64} (h : TR M F X XF G) : ∀ k : Nat, (k : Int) + 1 < (M 10).toInt → (F 11 k).toInt < (F 11 (k + 1)).toInt := h.2.2.2.2.2.2.2.2.2.2.2.2.2.2.2.2.2.2.2.2.2.2.1
theorem TR.v_re {M : Nat → Int32} {F : Nat → Nat → Int32} {X : Nat → Int32} {XF : Nat → Nat → Int32} {G : Nat → Nat → Int64} (h : TR M F X XF G) : ∀ k : Nat, (k : Int) < (M 10).toInt → 1000 ≤ (F 12 k).toInt ∧ (F 12 k).toInt ≤ 3000000 := h.2.2.2.2.2.2.2.2.2.2.2.2.2.2.2.2.2.2.2.2.2.2.2.1
theorem TR.v_xe {M : Nat → Int32} {F : Nat → Nat → Int32} {X : Nat → Int32} {XF : Nat → Nat → Int32} {G : Nat → Nat → Int64} (h : TR M F X XF G) : ∀ k : Nat, (k : Int) < (M 10).toInt → -3000000 ≤ (F 13 k).toInt ∧ (F 13 k).toInt ≤ 3000000 := h.2.2.2.2.2.2.2.2.2.2.2.2.2.2.2.2.2.2.2.2.2.2.2.2.1
theorem TR.v_band {M : Nat → Int32} {F : Nat → Nat → Int32} {X : Nat → Int32} {XF : Nat → Nat → Int32} {G : Nat → Nat → Int64} (h : TR M F X XF G) : ∀ k : Nat, (k : Int) < (M 14).toInt → 1500 ≤ (F 15 k).toInt ∧ (F 15 k).toInt ≤ (F 16 k).toInt ∧ (F 16 k).toInt ≤ 30000 := h.2.2.2.2.2.2.2.2.2.2.2.2.2.2.2.2.2.2.2.2.2.2.2.2.2
theorem TR.mk {M : Nat → Int32} {F : Nat → Nat → Int32} {X : Nat → Int32} {XF : Nat → Nat → Int32} {G : Nat → Nat → Int64} (a0 : X 40 = M 4) (a1 : X 41 = M 5) (a2 : X 42 = M 6) (a3 : X 43 = M 7) (a4 : X 44 = M 8) (a5 : X 45 = M 9) (a6 : X 49 = M 10) (a7 : X 52 = M 14) (a8 : ∀ k : Nat, (k : Int) < (M 10).toInt → XF 46 k = F 11 k) (a9 : ∀ k : Nat, (k : Int) < (M 10).toInt → G 47 k = (F 12 k).toInt64) (a10 : ∀ k : Nat, (k : Int) < (M 10).toInt → G 48 k = (F 13 k).toInt64) (a11 : ∀ k : Nat, (k : Int) < (M 14).toInt → XF 50 k = F 15 k) (a12 : ∀ k : Nat, (k : Int) < (M 14).toInt → XF 51 k = F 16 k) (a13 : 10 ≤ (M 4).toInt ∧ (M 4).toInt ≤ 500) (a14 : 20 ≤ (M 5).toInt ∧ (M 5).toInt ≤ 500) (a15 : 1 ≤ (M 6).toInt ∧ (M 6).toInt ≤ 50) (a16 : 1 ≤ (M 7).toInt ∧ (M 7).toInt ≤ 1500) (a17 : 100 ≤ (M 8).toInt ∧ (M 8).toInt ≤ 5000) (a18 : 101 ≤ (M 9).toInt ∧ (M 9).toInt ≤ 1000) (a19 : 1 ≤ (M 10).toInt ∧ (M 10).toInt ≤ 16) (a20 : 0 ≤ (M 14).toInt ∧ (M 14).toInt ≤ 8) (a21 : ∀ k : Nat, (k : Int) < (M 10).toInt → 1500 ≤ (F 11 k).toInt ∧ (F 11 k).toInt ≤ 30000) (a22 : ∀ k : Nat, (k : Int) + 1 < (M 10).toInt → (F 11 k).toInt < (F 11 (k + 1)).toInt) (a23 : ∀ k : Nat, (k : Int) < (M 10).toInt → 1000 ≤ (F 12 k).toInt ∧ (F 12 k).toInt ≤ 3000000) (a24 : ∀ k : Nat, (k : Int) < (M 10).toInt → -3000000 ≤ (F 13 k).toInt ∧ (F 13 k).toInt ≤ 3000000) (a25 : ∀ k : Nat, (k : Int) < (M 14).toInt → 1500 ≤ (F 15 k).toInt ∧ (F 15 k).toInt ≤ (F 16 k).toInt ∧ (F 16 k).toInt ≤ 30000) : TR M F X XF G := ⟨a0, a1, a2, a3, a4, a5, a6, a7, a8, a9, a10, a11, a12, a13, a14, a15, a16, a17, a18, a19, a20, a21, a22, a23, a24, a25⟩
theorem TR.ascl {M F X XF G} (h : TR M F X XF G) : ∀ (j k : Nat), j ≤ k → (k : Int) < (M 10).toInt → (F 11 j).toInt ≤ (F 11 k).toInt := by
  intro j k hjk
  induction k with
  | zero => intro _; have : j = 0 := by omega
            subst this; exact Int.le_refl _
  | succ k ih =>
    intro hk
    by_cases he : j = k + 1
    · subst he; exact Int.le_refl _
    · have := ih (by omega) (by omega)
      have := h.v_asc k (by omega)
      omega
def kb (F : Nat → Int32) (f : Int32) : Nat → Option Nat
  | 0 => none
  | n + 1 => if F n ≤ f then some n else kb F f n
theorem kb_some {F : Nat → Int32} {f : Int32} {n k : Nat} (h : kb F f n = some k) : k < n ∧ (F k).toInt ≤ f.toInt ∧ ∀ i, k < i → i < n → f.toInt < (F i).toInt := by
  induction n with
  | zero => cases h
  | succ n ih =>
    rw [kb] at h
    split at h
    · rename_i h1
      cases h
      exact ⟨Nat.lt_succ_self _, le32.mp h1, fun i h2 h3 => by omega⟩
    · rename_i h1
      rw [le32] at h1
      obtain ⟨a, b, c⟩ := ih h
      refine ⟨by omega, b, fun i h2 h3 => ?_⟩
      by_cases h4 : i = n
      · subst h4; omega
      · exact c i h2 (by omega)
theorem kb_none {F : Nat → Int32} {f : Int32} {n : Nat} (h : kb F f n = none) : ∀ i, i < n → f.toInt < (F i).toInt := by
  induction n with
  | zero => intro i hi; omega
  | succ n ih =>
    rw [kb] at h
    split at h
    · cases h
    · rename_i h1
      rw [le32] at h1
      intro i hi
      by_cases h4 : i = n
      · subst h4; omega
      · exact ih h i (by omega)
def kI : Option Nat → Int32
  | none => -1
  | some k => oN k
theorem pb_L (K : Nat) (f : Int32) (μ : MS) (n : Nat) (hn : n ≤ 16) : ∀ (m : Nat) (x : Int32), x.toInt = (n : Int) - 1 → n + 1 ≤ m → fX4_pointBelow_L7 K m f x μ = some (kI (kb (μ.2.2 11) f n), μ) := by
  induction n with
  | zero =>
    intro m x hx hm
    obtain ⟨m, rfl⟩ : ∃ k, m = k + 1 := ⟨m - 1, by omega⟩
    have : x = -1 := by rw [eq32]; exact hx
    subst this
    rfl
  | succ n ih =>
    intro m x hx hm
    obtain ⟨m, rfl⟩ : ∃ k, m = k + 1 := ⟨m - 1, by omega⟩
    have hx1 : x = oN n := oN_of (by omega)
    subst hx1
    rw [fX4_pointBelow_L7, if_neg (by rw [lt32]; show ¬ _ < (0 : Int); omega), ga_t ⟨by omega, by omega⟩, oNn (by omega), kb]
    split
    · rfl
    · rename_i h1
      refine ih (by omega) m _ ?_ (by omega)
      have e1 : (-1 : Int32).toInt = -1 := rfl
      rw [a32, e1]
      all_goals omega
def itp (M : Nat → Int32) (F : Nat → Nat → Int32) (q : Nat) (f : Int32) : Int64 :=
  match kb (F 11) f (M 10).toNatClampNeg with
  | none => (F q 0).toInt64
  | some k => if k + 1 = (M 10).toNatClampNeg then (F q k).toInt64 else (F q k).toInt64 + (((F q (k + 1)).toInt64 - (F q k).toInt64) * (f - F 11 k).toInt64) / (F 11 (k + 1) - F 11 k).toInt64
theorem ne64 {a : Int64} (h : a.toInt ≠ 0) : ¬ a = 0 := fun q => h (by rw [q]; rfl)
section EV
variable {K : Nat} {M : Nat → Int32} {F : Nat → Nat → Int32} {X : Nat → Int32} {XF : Nat → Nat → Int32} {G : Nat → Nat → Int64} {g : Nat → Int64} {P : Nat → Nat → Option Nat}
theorem TR.nP (h : TR M F X XF G) : ((M 10).toNatClampNeg : Int) = (M 10).toInt := nn32 (by have := h.v_pts; omega)
theorem TR.nB (h : TR M F X XF G) : ((M 14).toNatClampNeg : Int) = (M 14).toInt := nn32 (by have := h.v_bds; omega)
theorem TR.dif (h : TR M F X XF G) {k : Nat} (hk : (k : Int) + 1 < (M 10).toInt) : (F 11 (k + 1) - F 11 k).toInt64.toInt = (F 11 (k + 1)).toInt - (F 11 k).toInt := by
  have h1 := h.v_fr k (by omega)
  have h2 := h.v_fr (k + 1) (by omega)
  rw [w64, s32] <;> omega
theorem pbM (h : TR M F X XF G) (hK : 17 ≤ K) (f : Int32) : fX4_pointBelow K f (M, g, F) = some (kI (kb (F 11) f (M 10).toNatClampNeg), (M, g, F)) := by
  have h1 := h.v_pts
  have h2 := h.nP
  unfold fX4_pointBelow
  simp only [nm]
  refine pb_L K f (M, g, F) (M 10).toNatClampNeg (by omega) K _ ?_ (by omega)
  have e1 : (1 : Int32).toInt = 1 := rfl
  rw [s32, e1, h2]
  all_goals rw [e1]; omega
theorem resM (h : TR M F X XF G) (hK : 17 ≤ K) (f : Int32) : fX4_resistanceAt K f (M, g, F) = some (itp M F 12 f, (M, g, F)) := by
  have h1 := h.v_pts
  have h2 := h.nP
  unfold fX4_resistanceAt
  rw [b2_e (pbM h hK f)]
  unfold itp
  cases hk : kb (F 11) f (M 10).toNatClampNeg with
  | none => rfl
  | some k =>
    obtain ⟨k1, k2, k3⟩ := kb_some hk
    have e1 : (1 : Int32).toInt = 1 := rfl
    have ek : (oN k).toInt = k := oNi (by omega)
    rw [show kI (some k) = oN k from rfl]
    simp only []
    rw [if_pos (show (0 : Int32) ≤ oN k by rw [le32]; show (0 : Int) ≤ _; omega)]
    by_cases hl : k + 1 = (M 10).toNatClampNeg
    · have e2 : oN k = M 10 - 1 := by
        rw [eq32, s32, e1]
        all_goals omega
      rw [if_pos e2, if_pos hl, ga_t ⟨by omega, by omega⟩, oNn (by omega)]
    · have e2 : ¬ oN k = M 10 - 1 := by
        rw [eq32, s32, e1]
        all_goals omega
      have ek1 : (oN (k + 1)).toInt = k + 1 := oNi (by omega)
      have hd := h.dif (k := k) (by omega)
      have ha := h.v_asc k (by omega)
      rw [if_neg e2, if_neg hl, oN_s (by omega), ga_t ⟨by omega, by omega⟩, ga_t ⟨by omega, by omega⟩, oNn (by omega), oNn (by omega)]
      have hb : fX4_between K (oN k) f (F 12 k).toInt64 (F 12 (k + 1)).toInt64 (M, g, F) = some ((F 12 k).toInt64 + (((F 12 (k + 1)).toInt64 - (F 12 k).toInt64) * (f - F 11 k).toInt64) / (F 11 (k + 1) - F 11 k).toInt64, (M, g, F)) := by
        unfold fX4_between
        rw [oN_s (by omega), ga_t ⟨by omega, by omega⟩, ga_t ⟨by omega, by omega⟩, ga_t ⟨by omega, by omega⟩, oNn (by omega), oNn (by omega), ga_t (ne64 (by rw [hd]; omega))]
      rw [b2_e hb]
theorem reaM (h : TR M F X XF G) (hK : 17 ≤ K) (f : Int32) : fX4_reactanceAt K f (M, g, F) = some (itp M F 13 f, (M, g, F)) := by
  have h1 := h.v_pts
  have h2 := h.nP
  unfold fX4_reactanceAt
  rw [b2_e (pbM h hK f)]
  unfold itp
  cases hk : kb (F 11) f (M 10).toNatClampNeg with
  | none => rfl
  | some k =>
    obtain ⟨k1, k2, k3⟩ := kb_some hk
    have e1 : (1 : Int32).toInt = 1 := rfl
    have ek : (oN k).toInt = k := oNi (by omega)
    rw [show kI (some k) = oN k from rfl]
    simp only []
    rw [if_pos (show (0 : Int32) ≤ oN k by rw [le32]; show (0 : Int) ≤ _; omega)]
    by_cases hl : k + 1 = (M 10).toNatClampNeg
    · have e2 : oN k = M 10 - 1 := by
        rw [eq32, s32, e1]
        all_goals omega
      rw [if_pos e2, if_pos hl, ga_t ⟨by omega, by omega⟩, oNn (by omega)]
    · have e2 : ¬ oN k = M 10 - 1 := by
        rw [eq32, s32, e1]
        all_goals omega
      have ek1 : (oN (k + 1)).toInt = k + 1 := oNi (by omega)
      have hd := h.dif (k := k) (by omega)
      have ha := h.v_asc k (by omega)
      rw [if_neg e2, if_neg hl, oN_s (by omega), ga_t ⟨by omega, by omega⟩, ga_t ⟨by omega, by omega⟩, oNn (by omega), oNn (by omega)]
      have hb : fX4_between K (oN k) f (F 13 k).toInt64 (F 13 (k + 1)).toInt64 (M, g, F) = some ((F 13 k).toInt64 + (((F 13 (k + 1)).toInt64 - (F 13 k).toInt64) * (f - F 11 k).toInt64) / (F 11 (k + 1) - F 11 k).toInt64, (M, g, F)) := by
        unfold fX4_between
        rw [oN_s (by omega), ga_t ⟨by omega, by omega⟩, ga_t ⟨by omega, by omega⟩, ga_t ⟨by omega, by omega⟩, oNn (by omega), oNn (by omega), ga_t (ne64 (by rw [hd]; omega))]
      rw [b2_e hb]
theorem ipr_L (h : TR M F X XF G) (f : Int32) (k : Nat) (hk : kb (F 11) f (M 10).toNatClampNeg = some k) (m : Nat) : ∀ (j : Nat), j ≤ k → k - j < m → fX6_interpolater_L16 K m f (oN j) (X, g, XF, G, P) = some (itp M F 12 f) := by
  have h1 := h.v_pts
  have h2 := h.nP
  obtain ⟨k1, k2, k3⟩ := kb_some hk
  induction m with
  | zero => intro j _ h0; omega
  | succ m ih =>
    intro j hj hm
    have e1 : (1 : Int32).toInt = 1 := rfl
    have ej1 : (oN (j + 1)).toInt = j + 1 := oNi (by omega)
    rw [fX6_interpolater_L16, oN_s (by omega)]
    have hend : j = k → fX6_interpolater_L44 K f (oN j) (X, g, XF, G, P) = some (itp M F 12 f) := by
      intro he
      subst he
      have ej : (oN j).toInt = j := oNi (by omega)
      unfold fX6_interpolater_L44 itp
      rw [hk, oN_s (by omega)]
      simp only []
      rw [h.pts]
      by_cases hl : j + 1 = (M 10).toNatClampNeg
      · rw [if_pos (by rw [eq32]; omega), if_pos hl, ga_t ⟨by omega, by omega⟩, oNn (by omega), h.re j (by omega)]
      · have hd := h.dif (k := j) (by omega)
        have ha := h.v_asc j (by omega)
        rw [if_neg (by rw [eq32]; omega), if_neg hl]
        simp only [oNn (show j < 2147483648 by omega), oNn (show j + 1 < 2147483648 by omega), h.re j (by omega), h.re (j + 1) (by omega), h.fr j (by omega), h.fr (j + 1) (by omega)]
        rw [ga_t ⟨by omega, by omega⟩, ga_t ⟨by omega, by omega⟩, ga_t ⟨by omega, by omega⟩, ga_t ⟨by omega, by omega⟩, ga_t ⟨by omega, by omega⟩, ga_t ⟨by omega, by omega⟩, ga_t (ne64 (by rw [hd]; omega))]
    simp only []
    rw [h.pts]
    by_cases c1 : M 10 ≤ oN (j + 1)
    · rw [if_pos c1]
      rw [le32] at c1
      exact hend (by omega)
    · rw [if_neg c1]
      rw [le32] at c1
      rw [ga_t ⟨by omega, by omega⟩]
      simp only [oNn (show j + 1 < 2147483648 by omega), h.fr (j + 1) (by omega)]
      by_cases c2 : f < F 11 (j + 1)
      · rw [if_pos c2]
        rw [lt32] at c2
        apply hend
        apply Classical.byContradiction
        intro hne
        have := h.ascl (j + 1) k (by omega) (by omega)
        omega
      · rw [if_neg c2]
        rw [lt32] at c2
        have hj1 : j + 1 ≤ k := by
          apply Classical.byContradiction
          intro hne
          have : j = k := by omega
          subst this
          have := k3 (j + 1) (by omega) (by omega)
          omega
        exact ih (j + 1) hj1 (by omega)
theorem ipx_L (h : TR M F X XF G) (f : Int32) (k : Nat) (hk : kb (F 11) f (M 10).toNatClampNeg = some k) (m : Nat) : ∀ (j : Nat), j ≤ k → k - j < m → fX6_interpolatex_L16 K m f (oN j) (X, g, XF, G, P) = some (itp M F 13 f) := by
  have h1 := h.v_pts
  have h2 := h.nP
  obtain ⟨k1, k2, k3⟩ := kb_some hk
  induction m with
  | zero => intro j _ h0; omega
  | succ m ih =>
    intro j hj hm
    have e1 : (1 : Int32).toInt = 1 := rfl
    have ej1 : (oN (j + 1)).toInt = j + 1 := oNi (by omega)
    rw [fX6_interpolatex_L16, oN_s (by omega)]
    have hend : j = k → fX6_interpolatex_L44 K f (oN j) (X, g, XF, G, P) = some (itp M F 13 f) := by
      intro he
      subst he
      have ej : (oN j).toInt = j := oNi (by omega)
      unfold fX6_interpolatex_L44 itp
      rw [hk, oN_s (by omega)]
      simp only []
      rw [h.pts]
      by_cases hl : j + 1 = (M 10).toNatClampNeg
      · rw [if_pos (by rw [eq32]; omega), if_pos hl, ga_t ⟨by omega, by omega⟩, oNn (by omega), h.xe j (by omega)]
      · have hd := h.dif (k := j) (by omega)
        have ha := h.v_asc j (by omega)
        rw [if_neg (by rw [eq32]; omega), if_neg hl]
        simp only [oNn (show j < 2147483648 by omega), oNn (show j + 1 < 2147483648 by omega), h.xe j (by omega), h.xe (j + 1) (by omega), h.fr j (by omega), h.fr (j + 1) (by omega)]
        rw [ga_t ⟨by omega, by omega⟩, ga_t ⟨by omega, by omega⟩, ga_t ⟨by omega, by omega⟩, ga_t ⟨by omega, by omega⟩, ga_t ⟨by omega, by omega⟩, ga_t ⟨by omega, by omega⟩, ga_t (ne64 (by rw [hd]; omega))]
    simp only []
    rw [h.pts]
    by_cases c1 : M 10 ≤ oN (j + 1)
    · rw [if_pos c1]
      rw [le32] at c1
      exact hend (by omega)
    · rw [if_neg c1]
      rw [le32] at c1
      rw [ga_t ⟨by omega, by omega⟩]
      simp only [oNn (show j + 1 < 2147483648 by omega), h.fr (j + 1) (by omega)]
      by_cases c2 : f < F 11 (j + 1)
      · rw [if_pos c2]
        rw [lt32] at c2
        apply hend
        apply Classical.byContradiction
        intro hne
        have := h.ascl (j + 1) k (by omega) (by omega)
        omega
      · rw [if_neg c2]
        rw [lt32] at c2
        have hj1 : j + 1 ≤ k := by
          apply Classical.byContradiction
          intro hne
          have : j = k := by omega
          subst this
          have := k3 (j + 1) (by omega) (by omega)
          omega
        exact ih (j + 1) hj1 (by omega)
theorem resX (h : TR M F X XF G) (hK : 17 ≤ K) (f : Int32) : fX6_resistance K f (X, g, XF, G, P) = some (itp M F 12 f) := by
  have h1 := h.v_pts
  have h2 := h.nP
  have : fX6_interpolater K f (X, g, XF, G, P) = some (itp M F 12 f) := by
    unfold fX6_interpolater
    have e0 : (0 : Int32).toNatClampNeg = 0 := rfl
    simp only [e0]
    rw [h.fr 0 (by omega), h.re 0 (by omega)]
    cases hk : kb (F 11) f (M 10).toNatClampNeg with
    | none =>
      have := kb_none hk 0 (by omega)
      rw [if_neg (by rw [le32]; omega)]
      unfold itp
      rw [hk]
    | some k =>
      obtain ⟨k1, k2, k3⟩ := kb_some hk
      have := h.ascl 0 k (by omega) (by omega)
      rw [if_pos (by rw [le32]; omega)]
      exact ipr_L h f k hk K 0 (by omega) (by omega)
  unfold fX6_resistance
  rw [b1_e this]
theorem reaX (h : TR M F X XF G) (hK : 17 ≤ K) (f : Int32) : fX6_reactance K f (X, g, XF, G, P) = some (itp M F 13 f) := by
  have h1 := h.v_pts
  have h2 := h.nP
  have : fX6_interpolatex K f (X, g, XF, G, P) = some (itp M F 13 f) := by
    unfold fX6_interpolatex
    have e0 : (0 : Int32).toNatClampNeg = 0 := rfl
    simp only [e0]
    rw [h.fr 0 (by omega), h.xe 0 (by omega)]
    cases hk : kb (F 11) f (M 10).toNatClampNeg with
    | none =>
      have := kb_none hk 0 (by omega)
      rw [if_neg (by rw [le32]; omega)]
      unfold itp
      rw [hk]
    | some k =>
      obtain ⟨k1, k2, k3⟩ := kb_some hk
      have := h.ascl 0 k (by omega) (by omega)
      rw [if_pos (by rw [le32]; omega)]
      exact ipx_L h f k hk K 0 (by omega) (by omega)
  unfold fX6_reactance
  rw [b1_e this]
/-- an interpolated value lies between the given ones -/
theorem itp_b (h : TR M F X XF G) (q : Nat) (f : Int32) (lo hi : Int) (hlo : -3000000 ≤ lo) (hhi : hi ≤ 3000000) (hb : ∀ k : Nat, (k : Int) < (M 10).toInt → lo ≤ (F q k).toInt ∧ (F q k).toInt ≤ hi) : lo ≤ (itp M F q f).toInt ∧ (itp M F q f).toInt ≤ hi := by
  have h1 := h.v_pts
  have h2 := h.nP
  unfold itp
  cases hk : kb (F 11) f (M 10).toNatClampNeg with
  | none => simp only []; rw [w64]; exact hb 0 (by omega)
  | some k =>
    obtain ⟨k1, k2, k3⟩ := kb_some hk
    simp only []
    split
    · rw [w64]; exact hb k (by omega)
    · have hd := h.dif (k := k) (by omega)
      have ha := h.v_asc k (by omega)
      have hf := k3 (k + 1) (by omega) (by omega)
      have hf0 := h.v_fr k (by omega)
      have hf1 := h.v_fr (k + 1) (by omega)
      have b0 := hb k (by omega)
      have b1 := hb (k + 1) (by omega)
      have e1 : ((F q (k + 1)).toInt64 - (F q k).toInt64).toInt = (F q (k + 1)).toInt - (F q k).toInt := by
        rw [s64, w64, w64] <;> rw [w64, w64] <;> omega
      have e2 : (f - F 11 k).toInt64.toInt = f.toInt - (F 11 k).toInt := by
        rw [w64, s32] <;> omega
      generalize hD : (F q (k + 1)).toInt - (F q k).toInt = D at *
      generalize ht : f.toInt - (F 11 k).toInt = t at *
      generalize hn : (F 11 (k + 1)).toInt - (F 11 k).toInt = n at *
      have ht0 : 0 ≤ t := by omega
      have htn : t < n := by omega
      have hp : -6000000 * 30000 ≤ D * t ∧ D * t ≤ 6000000 * 30000 := by
        constructor
        · calc -6000000 * 30000 ≤ -6000000 * t := by omega
            _ ≤ D * t := Int.mul_le_mul_of_nonneg_right (by omega) ht0
        · calc D * t ≤ 6000000 * t := Int.mul_le_mul_of_nonneg_right (by omega) ht0
            _ ≤ 6000000 * 30000 := by omega
      have e3 : (((F q (k + 1)).toInt64 - (F q k).toInt64) * (f - F 11 k).toInt64).toInt = D * t := by
        rw [m64, e1, e2] <;> rw [e1, e2] <;> omega
      have e4 : ((((F q (k + 1)).toInt64 - (F q k).toInt64) * (f - F 11 k).toInt64) / (F 11 (k + 1) - F 11 k).toInt64).toInt = (D * t).tdiv n := by
        rw [d64 (by rw [hd]; omega), e3, hd]
      have e5 : (0 ≤ D → 0 ≤ (D * t).tdiv n ∧ (D * t).tdiv n ≤ D) ∧ (D < 0 → D ≤ (D * t).tdiv n ∧ (D * t).tdiv n ≤ 0) := by
        constructor
        · intro hD0
          refine ⟨Int.tdiv_nonneg (Int.mul_nonneg hD0 ht0) (by omega), ?_⟩
          rw [Int.tdiv_eq_ediv_of_nonneg (Int.mul_nonneg hD0 ht0)]
          refine Int.ediv_le_of_le_mul (by omega) ?_
          exact Int.mul_le_mul_of_nonneg_left (by omega) hD0
        · intro hD0
          have e6 : (D * t).tdiv n = -((-D * t).tdiv n) := by
            rw [Int.neg_mul, Int.neg_tdiv, Int.neg_neg]
          have hm : 0 ≤ -D * t := Int.mul_nonneg (by omega) ht0
          have h7 : 0 ≤ (-D * t).tdiv n := Int.tdiv_nonneg hm (by omega)
          have h8 : (-D * t).tdiv n ≤ -D := by
            rw [Int.tdiv_eq_ediv_of_nonneg hm]
            refine Int.ediv_le_of_le_mul (by omega) ?_
            exact Int.mul_le_mul_of_nonneg_left (by omega) (by omega)
          omega
      rw [a64, w64, e4]
      all_goals first | omega | (rw [w64, e4]; omega)
end EV
