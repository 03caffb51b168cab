/-! plain law: the list, a copied state, remember on both sides -/
set_option maxRecDepth 100000
theorem k32_16 : (16 : Int32).toInt = 16 := rfl
theorem jck (K : Nat) {k n : Int32} (h : 0 ≤ k.toInt ∧ k.toInt < n.toInt) : fJ15_checkIndex K k n = some k := by
  have e : fJ10_checkIndex K k n = some k := by
    unfold fJ10_checkIndex
    simp only [lt32, le32, k32_0]
    repeat' split
    all_goals first | rfl | omega
  unfold fJ15_checkIndex
  exact (b1_e e).trans rfl
theorem jget (K : Nat) {mc n : Int32} {L : Nat → Option Nat} {k q : Nat} (hn : n.toInt ≤ 16) (hk : (k : Int) < n.toInt) (hq : L k = some q) : fJ14_get K (oN k) (mc, n, L) = some q := by
  have e : (oN k).toInt = k := oNi (by omega)
  unfold fJ14_get
  refine (b1_e (jck K ⟨by omega, by show (oN k).toInt < n.toInt; omega⟩)).trans ?_
  refine (b1_e (v := q) ?_).trans rfl
  unfold fJ14_elementData
  refine (ga_t ⟨by omega, by omega⟩).trans ?_
  exact (b1_e (show L (oN k).toNatClampNeg = some q by rw [oNn (by omega)]; exact hq)).trans rfl
theorem jadd (K : Nat) {mc : Int32} {L : Nat → Option Nat} {k q : Nat} (hk : k < 16) : fJ14_add K q (mc, oN k, L) = some (true, mc + 1, oN (k + 1), va_up L k (some q)) := by
  have e : (oN k).toInt = k := oNi (by omega)
  unfold fJ14_add fJ14_add_2
  refine (b1_e (v := (mc + 1, oN (k + 1), va_up L k (some q))) ?_).trans rfl
  rw [if_neg (show ¬ oN k = 16 by rw [eq32, e, k32_16]; omega)]
  refine (ga_t (show ix (oN k) 16 from ⟨by omega, by omega⟩)).trans ?_
  rw [oN_s (by omega), oNn (by omega)]
theorem cp_L (K : Nat) (d : Nat → ClassId) (o : Nat) (ef : va_W) (X : Nat → Int32) (gx : Nat → Int64) (XF : Nat → Nat → Int32) (G : Nat → Nat → Int64) (P : Nat → Nat → Option Nat) (c : Nat) (hc : c ≤ 16) (hX : X 72 = oN c) (hin : ∀ k, k < c → ∃ q, P 18 k = some q ∧ ∃ fs, (q, (.inr (16, fs) : va_E)) ∈ ef) (hout : ∀ k, c ≤ k → P 18 k = none) (q0 q1 q2 q3 q4 : Nat) (a0 a1 a2 a3 a6 : Int32) (n : Nat) : ∀ (m j : Nat), j + n = c → n + 1 ≤ m →
    fX8_init_2c_L92 K d o ef m (oN j) q0 a0 a1 a2 a3 a6 q1 (oN j) (oN j) q2 q3 q4 (fun k => if k < j then P 18 k else none) (X, gx, XF, G, P) = some [(q0, .inr (8, [.int a0, .int a1, .int a2, .int a3, .ref q3, .ref q4, .int a6, .ref q1])), (q1, .inr (18, [.int (oN c), .ref q2, .int (oN c)])), (q2, .inl (d 4, 16, .inr (.inr (.inr (.inr (P 18)))))), (q3, .inl (d 0, 100, .inl (XF 64))), (q4, .inl (d 3, 100, .inl (XF 65)))] := by
  have ec : (oN c).toInt = c := oNi (by omega)
  induction n with
  | zero =>
    intro m j hj hm
    obtain ⟨m, rfl⟩ : ∃ k, m = k + 1 := ⟨m - 1, by omega⟩
    have hj : j = c := by omega
    subst hj
    rw [fX8_init_2c_L92]
    refine (b1_e (v := oN j) (by show some (X 72) = _; rw [hX])).trans ?_
    rw [if_pos (by rw [le32]; exact Int.le_refl _)]
    have eL : (fun k => if k < j then P 18 k else none) = P 18 := by
      funext k
      by_cases h : k < j
      · rw [if_pos h]
      · rw [if_neg h, hout k (by omega)]
    rw [eL]
  | succ n ih =>
    intro m j hj hm
    obtain ⟨m, rfl⟩ : ∃ k, m = k + 1 := ⟨m - 1, by omega⟩
    have ej : (oN j).toInt = j := oNi (by omega)
    obtain ⟨q, hq, he⟩ := hin j (by omega)
    rw [fX8_init_2c_L92]
    refine (b1_e (v := oN c) (by show some (X 72) = _; rw [hX])).trans ?_
    rw [if_neg (by rw [le32, ec, ej]; omega)]
    refine (b1_e (v := q) (by show fJ14_get K (oN j) (X 70, X 72, P 18) = _; exact jget K (by rw [hX]; omega) (by rw [hX]; omega) hq)).trans ?_
    refine (gaP_t he).trans ?_
    refine (gaP_t he).trans ?_
    refine (b2_e (jadd K (by omega))).trans ?_
    show fX8_init_2c_L92 K d o ef m (oN j + 1) q0 a0 a1 a2 a3 a6 q1 (oN j + 1) (oN (j + 1)) q2 q3 q4 (va_up (fun k => if k < j then P 18 k else none) j (some q)) (X, gx, XF, G, P) = _
    have eL : va_up (fun k => if k < j then P 18 k else none) j (some q) = (fun k => if k < j + 1 then P 18 k else none) := by
      funext k
      show (if k = j then some q else if k < j then P 18 k else none) = _
      by_cases h : k = j
      · subst h; rw [if_pos rfl, if_pos (by omega), hq]
      · rw [if_neg h]
        by_cases h2 : k < j
        · rw [if_pos h2, if_pos (by omega)]
        · rw [if_neg h2, if_neg (by omega)]
    rw [eL, oN_s (by omega)]
    exact ih m (j + 1) (by omega) (by omega)
theorem fitsB {x : Int32} (h : x = 0 ∨ x = 1) : fits .boolean (.int x) = true := by
  rcases h with rfl | rfl <;> rfl
theorem copyX {K : Nat} (hK : 40 ≤ K) (d : Nat → ClassId) (o : Nat) {S : Nat → Int32} {X : Nat → Int32} {gx : Nat → Int64} {XF : Nat → Nat → Int32} {G : Nat → Nat → Int64} {P : Nat → Nat → Option Nat} {rest tl : va_W} (hS : SR S X XF) (hM : MRl S (X 72) (P 18) rest) (hsub : ∀ c ∈ rest, c ∈ tl) (u : UU) : fX8_init_2c K d o u (X, gx, XF, G, P) tl = some (BC d (mup X 70 (X 72)) XF (P 18) o (u 0) (u 1) (u 2) (u 3)) := by
  obtain ⟨h1, h2, h3, h4, h5⟩ := hM
  have ec : X 72 = oN (X 72).toNatClampNeg := oN_of (nn32 h2.1).symm
  have en := nn32 h2.1
  unfold fX8_init_2c ask
  refine (ga_t ?_).trans ?_
  · show X 63 = bi (decide (X 63 = 1))
    rw [hS.ch]
    rcases hS.v_ch with h | h <;> rw [h] <;> rfl
  refine (gaP_t fun i hi => fitsB (hS.v_fs i hi)).trans ?_
  have h := cp_L K d o tl X gx XF G P (X 72).toNatClampNeg (by omega) ec (fun k hk => by
    obtain ⟨q, a, b⟩ := h3 k (by omega)
    exact ⟨q, a, _, hsub _ b⟩) (fun k hk => h4 k (by omega)) o (u 0) (u 1) (u 2) (u 3) (X 60) (X 61) (X 62) (X 63) (X 66) (X 72).toNatClampNeg K 0 (by omega) (by omega)
  rw [← ec] at h
  have e0 : (fun k => if k < 0 then P 18 k else none) = (fun _ => none) := by
    funext k; rw [if_neg (by omega)]
  rw [e0] at h
  exact h
/-- a chain of failures, nothing said of different addresses -/
def Cn0 (tl : va_W) : List (Nat × Nat × Int32) → Option Nat → Prop
  | [], h => h = none
  | x :: t, h => h = some x.1 ∧ (10 ≤ x.2.1 ∧ x.2.1 ≤ 15) ∧ ∃ nx, (x.1, (.inr (x.2.1, [.int x.2.2, va_rf nx, .null, .null, .null, .null, .int 0]) : va_E)) ∈ tl ∧ Cn0 tl t nx
/-- the failures -/
def CHR (M : Nat → Int32) (F : Nat → Nat → Int32) (fl : Option Nat) (rest : va_W) (ch : List (Nat × Nat × Int32)) : Prop :=
  Cn0 rest ch fl ∧ M 44 = oN ch.length ∧ ch.length ≤ 3 ∧ ∀ (i : Nat) (c : Nat × Nat × Int32), ch[i]? = some c → F 45 i = knd c.2.1 ∧ F 46 i = c.2.2
theorem Cn0.sub {rest rest' : va_W} (hr : ∀ c ∈ rest, c ∈ rest') : ∀ {ch : List (Nat × Nat × Int32)} {fl : Option Nat}, Cn0 rest ch fl → Cn0 rest' ch fl
  | [], _, h => h
  | _ :: _, _, ⟨h1, h2, nx, h3, h5⟩ => ⟨h1, h2, nx, hr _ h3, h5.sub hr⟩
theorem CHR.cg {M F M' F' fl rest rest' ch} (h : CHR M F fl rest ch) (e1 : M' 44 = M 44) (e2 : F' 45 = F 45) (e3 : F' 46 = F 46) (hr : ∀ c ∈ rest, c ∈ rest') : CHR M' F' fl rest' ch := by
  obtain ⟨h1, h2, h3, h4⟩ := h
  exact ⟨h1.sub hr, by rw [e1]; exact h2, h3, by rw [e2, e3]; exact h4⟩
/-- the text buffer, the place of the last error -/
def TB (M : Nat → Int32) (F : Nat → Nat → Int32) (X : Nat → Int32) (XF : Nat → Nat → Int32) : Prop :=
  X 1 = M 18 ∧ (0 ≤ (M 18).toInt ∧ (M 18).toInt ≤ 500) ∧ (∀ k : Nat, (k : Int) < (M 18).toInt → XF 1 k &&& 255 = F 17 k) ∧ X 2 = M 25
theorem TB.cg {M F X XF M' F' X' XF'} (h : TB M F X XF) (e1 : M' 18 = M 18) (e2 : M' 25 = M 25) (e3 : F' 17 = F 17) (e4 : X' 1 = X 1) (e5 : X' 2 = X 2) (e6 : XF' 1 = XF 1) : TB M' F' X' XF' := by
  obtain ⟨h1, h2, h3, h4⟩ := h
  refine ⟨by rw [e4, e1]; exact h1, by rw [e1]; exact h2, by rw [e1, e3, e6]; exact h3, by rw [e5, e2]; exact h4⟩
theorem TR.cg {M F X XF G M' F' X' XF'} (h : TR M F X XF G) (e1 : ∀ k, 4 ≤ k → k < 15 → M' k = M k) (e2 : ∀ k, 11 ≤ k → k < 17 → F' k = F k) (e3 : ∀ k, 40 ≤ k → k < 53 → X' k = X k) (e4 : ∀ k, 46 ≤ k → k < 52 → XF' k = XF k) : TR M' F' X' XF' G := by
  obtain ⟨m4, m5, m6, m7, m8, m9, m10, m14⟩ : M' 4 = M 4 ∧ M' 5 = M 5 ∧ M' 6 = M 6 ∧ M' 7 = M 7 ∧ M' 8 = M 8 ∧ M' 9 = M 9 ∧ M' 10 = M 10 ∧ M' 14 = M 14 := ⟨e1 4 (by decide) (by decide), e1 5 (by decide) (by decide), e1 6 (by decide) (by decide), e1 7 (by decide) (by decide), e1 8 (by decide) (by decide), e1 9 (by decide) (by decide), e1 10 (by decide) (by decide), e1 14 (by decide) (by decide)⟩
  obtain ⟨f11, f12, f13, f15, f16⟩ : F' 11 = F 11 ∧ F' 12 = F 12 ∧ F' 13 = F 13 ∧ F' 15 = F 15 ∧ F' 16 = F 16 := ⟨e2 11 (by decide) (by decide), e2 12 (by decide) (by decide), e2 13 (by decide) (by decide), e2 15 (by decide) (by decide), e2 16 (by decide) (by decide)⟩
  refine TR.mk ?_ ?_ ?_ ?_ ?_ ?_ ?_ ?_ ?_ ?_ ?_ ?_ ?_ ?_ ?_ ?_ ?_ ?_ ?_ ?_ ?_ ?_ ?_ ?_ ?_ ?_
  · rw [m4, e3 40 (by decide) (by decide)]; exact h.ind
  · rw [m5, e3 41 (by decide) (by decide)]; exact h.qual
  · rw [m6, e3 42 (by decide) (by decide)]; exact h.cap
  · rw [m7, e3 43 (by decide) (by decide)]; exact h.pow
  · rw [m8, e3 44 (by decide) (by decide)]; exact h.rat
  · rw [m9, e3 45 (by decide) (by decide)]; exact h.gsw
  · rw [m10, e3 49 (by decide) (by decide)]; exact h.pts
  · rw [m14, e3 52 (by decide) (by decide)]; exact h.bds
  · rw [m10, f11, e4 46 (by decide) (by decide)]; exact h.fr
  · rw [m10, f12]; exact h.re
  · rw [m10, f13]; exact h.xe
  · rw [m14, f15, e4 50 (by decide) (by decide)]; exact h.bl
  · rw [m14, f16, e4 51 (by decide) (by decide)]; exact h.bh
  · rw [m4]; exact h.v_ind
  · rw [m5]; exact h.v_qual
  · rw [m6]; exact h.v_cap
  · rw [m7]; exact h.v_pow
  · rw [m8]; exact h.v_rat
  · rw [m9]; exact h.v_gsw
  · rw [m10]; exact h.v_pts
  · rw [m14]; exact h.v_bds
  · rw [m10, f11]; exact h.v_fr
  · rw [m10, f11]; exact h.v_asc
  · rw [m10, f12]; exact h.v_re
  · rw [m10, f13]; exact h.v_xe
  · rw [m14, f15, f16]; exact h.v_band
theorem SR.cx {S X XF X' XF'} (h : SR S X XF) (e3 : ∀ k, 60 ≤ k → k < 67 → X' k = X k) (e4 : ∀ k, 64 ≤ k → k < 66 → XF' k = XF k) : SR S X' XF' := by
  refine SR.mk ?_ ?_ ?_ ?_ ?_ ?_ ?_ h.v_fq h.v_st h.v_ht h.v_ch h.v_rc h.v_rd ?_
  · rw [e3 60 (by decide) (by decide)]; exact h.fq
  · rw [e3 61 (by decide) (by decide)]; exact h.st
  · rw [e3 62 (by decide) (by decide)]; exact h.ht
  · rw [e3 63 (by decide) (by decide)]; exact h.ch
  · rw [e3 66 (by decide) (by decide)]; exact h.rc
  · rw [e4 64 (by decide) (by decide)]; exact h.rd
  · rw [e4 65 (by decide) (by decide)]; exact h.fs
  · rw [e4 65 (by decide) (by decide)]; exact h.v_fs
/-- the loaded tuner and the reference -/
def FR (d : Nat → ClassId) (M : Nat → Int32) (F : Nat → Nat → Int32) (X : Nat → Int32) (XF : Nat → Nat → Int32) (G : Nat → Nat → Int64) (P : Nat → Nat → Option Nat) (tl : va_W) : Prop :=
  ∃ (bl : List (Nat × va_W)) (rest : va_W) (ch : List (Nat × Nat × Int32)) (n : Nat), CR M F X XF G ∧ MRl (F 0) (X 72) (P 18) rest ∧ M 2 = oN n ∧ HR d (F 1) n (X 81) (X 82) (P 19) rest bl ∧ tl.Perm (bl.flatMap (·.2) ++ rest) ∧ CHR M F (P 6 0) rest ch ∧ X 10 = M 39 ∧ TB M F X XF
abbrev FRt (d : Nat → ClassId) (μ : MS) (ζ : XT) : Prop := FR d μ.1 μ.2.2 ζ.1.1 ζ.1.2.2.1 ζ.1.2.2.2.1 ζ.1.2.2.2.2 ζ.2
def OK {α : Type} (d : Nat → ClassId) (fa : Option (α × MS)) (fb : UU → Option (α × XT)) : Prop := ∃ (r : α) (μ' : MS) (y : UU → XT), fa = some (r, μ') ∧ (∀ u, fb u = some (r, y u)) ∧ ∀ u, FRt d μ' (y u)
theorem subP {tl : va_W} {bl : List (Nat × va_W)} {rest : va_W} (h : tl.Perm (bl.flatMap (·.2) ++ rest)) : ∀ c ∈ rest, c ∈ tl := fun c hc => h.mem_iff.mpr (List.mem_append_right _ hc)
