/-! plain law: relays -/
set_option maxRecDepth 100000
def bc1 (v : Int32) : Int32 := 0 + ((v >>> ((0 : Int32) &&& 31)) &&& 1) + ((v >>> ((1 : Int32) &&& 31)) &&& 1) + ((v >>> ((2 : Int32) &&& 31)) &&& 1) + ((v >>> ((3 : Int32) &&& 31)) &&& 1) + ((v >>> ((4 : Int32) &&& 31)) &&& 1) + ((v >>> ((5 : Int32) &&& 31)) &&& 1) + ((v >>> ((6 : Int32) &&& 31)) &&& 1) + ((v >>> ((7 : Int32) &&& 31)) &&& 1) + ((v >>> ((8 : Int32) &&& 31)) &&& 1) + ((v >>> ((9 : Int32) &&& 31)) &&& 1) + ((v >>> ((10 : Int32) &&& 31)) &&& 1) + ((v >>> ((11 : Int32) &&& 31)) &&& 1) + ((v >>> ((12 : Int32) &&& 31)) &&& 1)
theorem bcM1 (K m : Nat) (v c k k' : Int32) (μ : MS) (h : k.toInt < 13) (hk : k + 1 = k') : fX4_relaysTo_L39 K (m + 1) v c k μ = fX4_relaysTo_L39 K m v (c + ((v >>> (k &&& 31)) &&& 1)) k' μ := by
  subst hk
  rw [fX4_relaysTo_L39, if_neg (by rw [le32]; show ¬ (13 : Int) ≤ _; omega), nmr]
theorem bcM (K : Nat) (hK : 14 ≤ K) (v : Int32) (μ : MS) : fX4_relaysTo_L39 K K v 0 0 μ = some (bc1 v, μ) := by
  obtain ⟨m, hm⟩ : ∃ m, K = m + 14 := ⟨K - 14, by omega⟩
  have h : ∀ L, fX4_relaysTo_L39 L (m + 14) v 0 0 μ = some (bc1 v, μ) := by
    intro L
    rw [bcM1 L (m + 13) v _ 0 1 μ (by decide) (by decide), bcM1 L (m + 12) v _ 1 2 μ (by decide) (by decide), bcM1 L (m + 11) v _ 2 3 μ (by decide) (by decide), bcM1 L (m + 10) v _ 3 4 μ (by decide) (by decide), bcM1 L (m + 9) v _ 4 5 μ (by decide) (by decide), bcM1 L (m + 8) v _ 5 6 μ (by decide) (by decide), bcM1 L (m + 7) v _ 6 7 μ (by decide) (by decide), bcM1 L (m + 6) v _ 7 8 μ (by decide) (by decide), bcM1 L (m + 5) v _ 8 9 μ (by decide) (by decide), bcM1 L (m + 4) v _ 9 10 μ (by decide) (by decide), bcM1 L (m + 3) v _ 10 11 μ (by decide) (by decide), bcM1 L (m + 2) v _ 11 12 μ (by decide) (by decide), bcM1 L (m + 1) v _ 12 13 μ (by decide) (by decide), fX4_relaysTo_L39, if_pos (by decide)]
    rfl
  have := h K
  rw [← hm] at this
  exact this
def bc2 (p0 : Int32) : Int32 :=
  let v1 := p0 - (((p0.toUInt32 >>> ((1 : Int32).toUInt32 &&& Int32.toUInt32 31)).toInt32) &&& (1431655765 : Int32))
  let v2 := (v1 &&& (858993459 : Int32)) + (((v1.toUInt32 >>> ((2 : Int32).toUInt32 &&& Int32.toUInt32 31)).toInt32) &&& (858993459 : Int32))
  let v3 := (v2 + ((v2.toUInt32 >>> ((4 : Int32).toUInt32 &&& Int32.toUInt32 31)).toInt32)) &&& (252645135 : Int32)
  let v4 := v3 + ((v3.toUInt32 >>> ((8 : Int32).toUInt32 &&& Int32.toUInt32 31)).toInt32)
  let v5 := v4 + ((v4.toUInt32 >>> ((16 : Int32).toUInt32 &&& Int32.toUInt32 31)).toInt32)
  v5 &&& (63 : Int32)
theorem bcX (K : Nat) (v : Int32) : fJ16_bitCount K v = some (bc2 v) := rfl
theorem bc_all : ∀ a : Nat, a < 128 → ∀ b : Nat, b < 64 → bc1 (Int32.ofNat (64 * a + b)) = bc2 (Int32.ofNat (64 * a + b)) := by decide +kernel
theorem bc_e {x y : Int32} (hx : 0 ≤ x.toInt ∧ x.toInt ≤ 8191) (hy : 0 ≤ y.toInt ∧ y.toInt ≤ 8191) : bc1 (x ^^^ y) = bc2 (x ^^^ y) := by
  have e1 := nn32 hx.1
  have e2 := nn32 hy.1
  have x1 : x = Int32.ofNat x.toNatClampNeg := oN_of e1.symm
  have y1 : y = Int32.ofNat y.toNatClampNeg := oN_of e2.symm
  have hb : x.toNatClampNeg ^^^ y.toNatClampNeg < 2 ^ 13 := Nat.xor_lt_two_pow (by omega) (by omega)
  have e3 : x ^^^ y = Int32.ofNat (x.toNatClampNeg ^^^ y.toNatClampNeg) := by
    rw [x1, y1, oNn (by omega), oNn (by omega)]
    apply Int32.toBitVec_inj.mp
    simp only [Int32.toBitVec_xor, Int32.toBitVec_ofNat']
    apply BitVec.eq_of_toNat_eq
    simp
  rw [e3]
  generalize x.toNatClampNeg ^^^ y.toNatClampNeg = n at hb
  have := bc_all (n / 64) (by omega) (n % 64) (by omega)
  rw [show 64 * (n / 64) + n % 64 = n by omega] at this
  exact this
section OPS
variable {K : Nat} {M : Nat → Int32} {F : Nat → Nat → Int32} {X : Nat → Int32} {XF : Nat → Nat → Int32} {G : Nat → Nat → Int64} {g gx : Nat → Int64} {P : Nat → Nat → Option Nat}
theorem p_relays (h : CR M F X XF G) (hK : 40 ≤ K) (a b c : Int32) : RO (fX4_relaysTo K a b c (M, g, F)) (fX0_relaysTo K a b c (X, gx, XF, G, P)) M F X XF G P := by
  have nl := h.nl
  by_cases hc : (0 ≤ a.toInt ∧ a.toInt ≤ 1) ∧ (0 ≤ b.toInt ∧ b.toInt ≤ 63) ∧ (0 ≤ c.toInt ∧ c.toInt ≤ 63)
  · refine ⟨bc2 ((4096 * a + 64 * b + c) ^^^ X 61), g, X, gx, ?_, ?_, fun _ _ => rfl⟩
    · unfold fX4_relaysTo
      rw [if_neg nl]
      refine (b1_e (areM K a b c)).trans ?_
      rw [if_pos (decide_eq_true hc)]
      unfold fX4_together
      refine (b1_e rfl).trans ?_
      refine (ga_t ⟨by decide, by decide⟩).trans ?_
      rw [nmr, bcM K (by omega)]
      show some (bc1 ((4096 * a + 64 * b + c) ^^^ F 0 1), _) = _
      rw [← h.s.st, bc_e (tog2 hc) (by rw [h.s.st]; exact h.s.v_st)]
    · unfold fX0_relaysTo
      refine (b2_e (areX K a b c _)).trans ?_
      rw [if_pos (decide_eq_true hc)]
      unfold fX2_init fX2_code
      refine (b1_e rfl).trans ?_
      refine (b2_e rfl).trans ?_
      exact (b1_e (bcX K _)).trans rfl
  · refine ⟨-1, g, X, gx, ?_, ?_, fun _ _ => rfl⟩
    · unfold fX4_relaysTo
      rw [if_neg nl]
      refine (b1_e (areM K a b c)).trans ?_
      rw [if_neg (by rw [decide_eq_false hc]; decide)]
    · unfold fX0_relaysTo
      refine (b2_e (areX K a b c _)).trans ?_
      rw [if_neg (by rw [decide_eq_false hc]; decide)]
end OPS
