/-! plain law: what is asked of the network; bands -/
set_option maxRecDepth 100000
/-- the state that actions change -/
def SR (S : Nat → Int32) (X : Nat → Int32) (XF : Nat → Nat → Int32) : Prop :=
  (X 60 = S 0) ∧
  (X 61 = S 1) ∧
  (X 62 = S 2) ∧
  (X 63 = S 3) ∧
  (X 66 = S 4) ∧
  (∀ k : Nat, (k : Int) < (S 4).toInt → XF 64 k = S (5 + k)) ∧
  (∀ k : Nat, (k : Int) < (S 4).toInt → XF 65 k = S (105 + k)) ∧
  (1500 ≤ (S 0).toInt ∧ (S 0).toInt ≤ 30000) ∧
  (0 ≤ (S 1).toInt ∧ (S 1).toInt ≤ 8191) ∧
  (0 ≤ (S 2).toInt ∧ (S 2).toInt ≤ 2) ∧
  (S 3 = 0 ∨ S 3 = 1) ∧
  (0 ≤ (S 4).toInt ∧ (S 4).toInt ≤ 100) ∧
  (∀ k : Nat, (k : Int) < (S 4).toInt → 0 ≤ (S (5 + k)).toInt ∧ (S (5 + k)).toInt ≤ 99999) ∧
  (∀ k : Nat, k < 100 → XF 65 k = 0 ∨ XF 65 k = 1)
theorem SR.fq {S : Nat → Int32} {X : Nat → Int32} {XF : Nat → Nat → Int32} (h : SR S X XF) : X 60 = S 0 := h.1
theorem SR.st {S : Nat → Int32} {X : Nat → Int32} {XF : Nat → Nat → Int32} (h : SR S X XF) : X 61 = S 1 := h.2.1
theorem SR.ht {S : Nat → Int32} {X : Nat → Int32} {XF : Nat → Nat → Int32} (h : SR S X XF) : X 62 = S 2 := h.2.2.1
theorem SR.ch {S : Nat → Int32} {X : Nat → Int32} {XF : Nat → Nat → Int32} (h : SR S X XF) : X 63 = S 3 := h.2.2.2.1
theorem SR.rc {S : Nat → Int32} {X : Nat → Int32} {XF : Nat → Nat → Int32} (h : SR S X XF) : X 66 = S 4 := h.2.2.2.2.1
theorem SR.rd {S : Nat → Int32} {X : Nat → Int32} {XF : Nat → Nat → Int32} (h : SR S X XF) : ∀ k : Nat, (k : Int) < (S 4).toInt → XF 64 k = S (5 + k) := h.2.2.2.2.2.1
theorem SR.fs {S : Nat → Int32} {X : Nat → Int32} {XF : Nat → Nat → Int32} (h : SR S X XF) : ∀ k : Nat, (k : Int) < (S 4).toInt → XF 65 k = S (105 + k) := h.2.2.2.2.2.2.1
theorem SR.v_fq {S : Nat → Int32} {X : Nat → Int32} {XF : Nat → Nat → Int32} (h : SR S X XF) : 1500 ≤ (S 0).toInt ∧ (S 0).toInt ≤ 30000 := h.2.2.2.2.2.2.2.1
theorem SR.v_st {S : Nat → Int32} {X : Nat → Int32} {XF : Nat → Nat → Int32} (h : SR S X XF) : 0 ≤ (S 1).toInt ∧ (S 1).toInt ≤ 8191 := h.2.2.2.2.2.2.2.2.1
theorem SR.v_ht {S : Nat → Int32} {X : Nat → Int32} {XF : Nat → Nat → Int32} (h : SR S X XF) : 0 ≤ (S 2).toInt ∧ (S 2).toInt ≤ 2 := h.2.2.2.2.2.2.2.2.2.1
theorem SR.v_ch {S : Nat → Int32} {X : Nat → Int32} {XF : Nat → Nat → Int32} (h : SR S X XF) : S 3 = 0 ∨ S 3 = 1 := h.2.2.2.2.2.2.2.2.2.2.1
theorem SR.v_rc {S : Nat → Int32} {X : Nat → Int32} {XF : Nat → Nat → Int32} (h : SR S X XF) : 0 ≤ (S 4).toInt ∧ (S 4).toInt ≤ 100 := h.2.2.2.2.2.2.2.2.2.2.2.1
theorem SR.v_rd {S : Nat → Int32} {X : Nat → Int32} {XF : Nat → Nat → Int32} (h : SR S X XF) : ∀ k : Nat, (k : Int) < (S 4).toInt → 0 ≤ (S (5 + k)).toInt ∧ (S (5 + k)).toInt ≤ 99999 := h.2.2.2.2.2.2.2.2.2.2.2.2.1
theorem SR.v_fs {S : Nat → Int32} {X : Nat → Int32} {XF : Nat → Nat → Int32} (h : SR S X XF) : ∀ k : Nat, k < 100 → XF 65 k = 0 ∨ XF 65 k = 1 := h.2.2.2.2.2.2.2.2.2.2.2.2.2
theorem SR.mk {S : Nat → Int32} {X : Nat → Int32} {XF : Nat → Nat → Int32} (a0 : X 60 = S 0) (a1 : X 61 = S 1) (a2 : X 62 = S 2) (a3 : X 63 = S 3) (a4 : X 66 = S 4) (a5 : ∀ k : Nat, (k : Int) < (S 4).toInt → XF 64 k = S (5 + k)) (a6 : ∀ k : Nat, (k : Int) < (S 4).toInt → XF 65 k = S (105 + k)) (a7 : 1500 ≤ (S 0).toInt ∧ (S 0).toInt ≤ 30000) (a8 : 0 ≤ (S 1).toInt ∧ (S 1).toInt ≤ 8191) (a9 : 0 ≤ (S 2).toInt ∧ (S 2).toInt ≤ 2) (a10 : S 3 = 0 ∨ S 3 = 1) (a11 : 0 ≤ (S 4).toInt ∧ (S 4).toInt ≤ 100) (a12 : ∀ k : Nat, (k : Int) < (S 4).toInt → 0 ≤ (S (5 + k)).toInt ∧ (S (5 + k)).toInt ≤ 99999) (a13 : ∀ k : Nat, k < 100 → XF 65 k = 0 ∨ XF 65 k = 1) : SR S X XF := ⟨a0, a1, a2, a3, a4, a5, a6, a7, a8, a9, a10, a11, a12, a13⟩
def CR (M : Nat → Int32) (F : Nat → Nat → Int32) (X : Nat → Int32) (XF : Nat → Nat → Int32) (G : Nat → Nat → Int64) : Prop :=
  (TR M F X XF G) ∧
  (SR (F 0) X XF) ∧
  (M 3 = 1)
theorem CR.t {M : Nat → Int32} {F : Nat → Nat → Int32} {X : Nat → Int32} {XF : Nat → Nat → Int32} {G : Nat → Nat → Int64} (h : CR M F X XF G) : TR M F X XF G := h.1
theorem CR.s {M : Nat → Int32} {F : Nat → Nat → Int32} {X : Nat → Int32} {XF : Nat → Nat → Int32} {G : Nat → Nat → Int64} (h : CR M F X XF G) : SR (F 0) X XF := h.2.1
theorem CR.ld {M : Nat → Int32} {F : Nat → Nat → Int32} {X : Nat → Int32} {XF : Nat → Nat → Int32} {G : Nat → Nat → Int64} (h : CR M F X XF G) : M 3 = 1 := h.2.2
theorem CR.mk {M : Nat → Int32} {F : Nat → Nat → Int32} {X : Nat → Int32} {XF : Nat → Nat → Int32} {G : Nat → Nat → Int64} (a0 : TR M F X XF G) (a1 : SR (F 0) X XF) (a2 : M 3 = 1) : CR M F X XF G := ⟨a0, a1, a2⟩
theorem CR.scr {M F X XF G} (h : CR M F X XF G) {X2 : Nat → Int32} (hx : ∀ k, k ≠ 20 → X2 k = X k) : CR M F X2 XF G := by
  obtain ⟨t, s, l⟩ := h
  refine CR.mk (TR.mk ?_ ?_ ?_ ?_ ?_ ?_ ?_ ?_ t.fr t.re t.xe t.bl t.bh t.v_ind t.v_qual t.v_cap t.v_pow t.v_rat t.v_gsw t.v_pts t.v_bds t.v_fr t.v_asc t.v_re t.v_xe t.v_band) (SR.mk ?_ ?_ ?_ ?_ ?_ s.rd s.fs s.v_fq s.v_st s.v_ht s.v_ch s.v_rc s.v_rd s.v_fs) l
  · rw [hx _ (by decide)]; exact t.ind
  · rw [hx _ (by decide)]; exact t.qual
  · rw [hx _ (by decide)]; exact t.cap
  · rw [hx _ (by decide)]; exact t.pow
  · rw [hx _ (by decide)]; exact t.rat
  · rw [hx _ (by decide)]; exact t.gsw
  · rw [hx _ (by decide)]; exact t.pts
  · rw [hx _ (by decide)]; exact t.bds
  · rw [hx _ (by decide)]; exact s.fq
  · rw [hx _ (by decide)]; exact s.st
  · rw [hx _ (by decide)]; exact s.ht
  · rw [hx _ (by decide)]; exact s.ch
  · rw [hx _ (by decide)]; exact s.rc
/-- an answer alike, and nothing changed but what is worked on -/
def RO {α : Type} (fa : Option (α × MS)) (fb : Option (α × XS)) (M : Nat → Int32) (F : Nat → Nat → Int32) (X : Nat → Int32) (XF : Nat → Nat → Int32) (G : Nat → Nat → Int64) (P : Nat → Nat → Option Nat) : Prop := ∃ r g1 X2 g2, fa = some (r, (M, g1, F)) ∧ fb = some (r, (X2, g2, XF, G, P)) ∧ ∀ k, k ≠ 20 → X2 k = X k
theorem sw_b (M : Nat → Int32) (F : Nat → Nat → Int32) (s f : Int32) : 100 ≤ (swV M F s f).toInt ∧ (swV M F s f).toInt ≤ 99999 := by
  unfold swV swrP ratP
  generalize evI M F s f = q
  have b1 := rt_all ((q.1 - 50000) * (q.1 - 50000) + q.2 * q.2)
  have b2 := rt_all ((q.1 + 50000) * (q.1 + 50000) + q.2 * q.2)
  generalize rt ((q.1 - 50000) * (q.1 - 50000) + q.2 * q.2) = n at b1 ⊢
  generalize rt ((q.1 + 50000) * (q.1 + 50000) + q.2 * q.2) = m at b2 ⊢
  by_cases h : n < m
  · rw [if_pos h]
    have hq := ratP_q ⟨b1.1, b1.2.1⟩ ⟨b2.1, b2.2.1⟩ h
    rw [lt64] at h
    have e1 : (m + n).toInt = m.toInt + n.toInt := a64 (by omega) (by omega)
    have e2 : (m - n).toInt = m.toInt - n.toInt := s64 (by omega) (by omega)
    have e0 : (100 : Int64).toInt = 100 := by decide
    have e3 : (100 * (m + n)).toInt = 100 * (m.toInt + n.toInt) := by rw [m64, e0, e1] <;> rw [e0, e1] <;> omega
    have e4 : ((100 * (m + n)) / (m - n)).toInt = (100 * (m.toInt + n.toInt)) / (m.toInt - n.toInt) := by
      rw [d64 (by omega), e3, e2, Int.tdiv_eq_ediv_of_nonneg (by omega)]
    have e5 : 100 ≤ ((100 * (m + n)) / (m - n)).toInt := by
      rw [e4]
      exact Int.le_ediv_of_mul_le (by omega) (by omega)
    generalize (100 * (m + n)) / (m - n) = v at e5
    have k0 : (0 : Int64).toInt = 0 := by decide
    have k1 : (99999 : Int64).toInt = 99999 := by decide
    have c := cl_b (v := v) (lo := 0) (hi := 99999) (by decide)
    rw [k0, k1] at c
    have c2 : 100 ≤ (cl v 0 99999).toInt := by
      unfold cl
      rw [if_pos (by rw [le64]; omega)]
      split
      · exact e5
      · rw [k1]; decide
    have e6 : (cl v 0 99999).toInt32.toInt = (cl v 0 99999).toInt := by
      rw [Int64.toInt_toInt32]
      exact Int.bmod_eq_of_le (by omega) (by omega)
    rw [e6]
    exact ⟨c2, c.2⟩
  · rw [if_neg h]
    exact ⟨by decide, by decide⟩
section OPS
variable {K : Nat} {M : Nat → Int32} {F : Nat → Nat → Int32} {X : Nat → Int32} {XF : Nat → Nat → Int32} {G : Nat → Nat → Int64} {g gx : Nat → Int64} {P : Nat → Nat → Option Nat}
theorem CR.nl (h : CR M F X XF G) : ¬ M 3 = 0 := by rw [h.ld]; decide
theorem x20 {X : Nat → Int32} (v : Int32) : ∀ k, k ≠ 20 → mup X 20 v k = X k := fun k hk => by rw [mup_e, if_neg hk]
/-- laid at settings and a frequency -/
def At (M : Nat → Int32) (F : Nat → Nat → Int32) (s f : Int32) (X : Nat → Int32) (g : Nat → Int64) : Prop := X 20 = s / 4096 ∧ (g 32, g 33) = evI M F s f ∧ (g 30, g 31) = evL M F s f ∧ g 22 = loV M f s
theorem lay' (h : CR M F X XF G) (hK : 40 ≤ K) {s f : Int32} (hs : 0 ≤ s.toInt ∧ s.toInt ≤ 8191) (hf : 1500 ≤ f.toInt ∧ f.toInt ≤ 30000) : ∃ X2 g2, fX3_lay K s f (X, gx, XF, G, P) = some (X2, g2, XF, G, P) ∧ (∀ k, k ≠ 20 → X2 k = X k) ∧ At M F s f X2 g2 := by
  obtain ⟨g2, h1, h2, h3, h4⟩ := layX (g := gx) (P := P) h.t hK hs hf
  exact ⟨mup X 20 (s / 4096), g2, h1, x20 _, by rw [mup_e, if_pos rfl], h2, h3, h4⟩
theorem swr' (hK : 40 ≤ K) {s f : Int32} {X2 : Nat → Int32} {g2 : Nat → Int64} (h : At M F s f X2 g2) : fX3_swr K (X2, g2, XF, G, P) = some (swV M F s f, (X2, g2, XF, G, P)) := by
  rw [swrX hK, h.2.1]; rfl
theorem eff' {s f : Int32} {X2 : Nat → Int32} {g2 : Nat → Int64} (h : At M F s f X2 g2) : fX3_efficiency K (X2, g2, XF, G, P) = some (efV M F s f, (X2, g2, XF, G, P)) := by
  rw [effX]
  unfold efV
  rw [← h.2.2.1, h.2.2.2]
theorem vol' (hc : CR M F X XF G) (hK : 40 ≤ K) {s f w : Int32} {X2 : Nat → Int32} {g2 : Nat → Int64} (h : At M F s f X2 g2) (hs : 0 ≤ s.toInt ∧ s.toInt ≤ 8191) (hf : 1500 ≤ f.toInt ∧ f.toInt ≤ 30000) (hw : 0 ≤ w.toInt ∧ w.toInt ≤ 1500) : fX3_voltageWith K w (X2, g2, XF, G, P) = some (voV M F s f w, (X2, g2, XF, G, P)) :=
  volX hK h.1 h.2.1 h.2.2.1 h.2.2.2 hw (efV_b hc.t hs hf)
theorem here' (h : CR M F X XF G) (hK : 40 ≤ K) : ∃ X2 g2, fX0_here K (X, gx, XF, G, P) = some (X2, g2, XF, G, P) ∧ (∀ k, k ≠ 20 → X2 k = X k) ∧ At M F (F 0 1) (F 0 0) X2 g2 := by
  obtain ⟨X2, g2, h1, h2, h3⟩ := lay' (gx := gx) (P := P) h hK h.s.v_st h.s.v_fq
  refine ⟨X2, g2, ?_, h2, h3⟩
  unfold fX0_here
  simp only [h.s.st, h.s.fq]
  exact (b1_e h1).trans rfl
theorem swrBy' (h : CR M F X XF G) (hK : 40 ≤ K) {s : Int32} (hs : 0 ≤ s.toInt ∧ s.toInt ≤ 8191) : ∃ X2 g2, fX0_swrBy K s (X, gx, XF, G, P) = some (swV M F s (F 0 0), (X2, g2, XF, G, P)) ∧ (∀ k, k ≠ 20 → X2 k = X k) ∧ At M F s (F 0 0) X2 g2 := by
  obtain ⟨X2, g2, h1, h2, h3⟩ := lay' (gx := gx) (P := P) h hK hs h.s.v_fq
  refine ⟨X2, g2, ?_, h2, h3⟩
  unfold fX0_swrBy
  simp only [h.s.fq]
  exact (b1_e h1).trans ((b2_e (swr' hK h3)).trans rfl)
theorem swrOf' (h : CR M F X XF G) (hK : 40 ≤ K) {f : Int32} (hf : 1500 ≤ f.toInt ∧ f.toInt ≤ 30000) : ∃ X2 g2, fX0_swrOf K f (X, gx, XF, G, P) = some (swV M F (F 0 1) f, (X2, g2, XF, G, P)) ∧ (∀ k, k ≠ 20 → X2 k = X k) ∧ At M F (F 0 1) f X2 g2 := by
  obtain ⟨X2, g2, h1, h2, h3⟩ := lay' (gx := gx) (P := P) h hK h.s.v_st hf
  refine ⟨X2, g2, ?_, h2, h3⟩
  unfold fX0_swrOf
  simp only [h.s.st]
  exact (b1_e h1).trans ((b2_e (swr' hK h3)).trans rfl)
theorem p_inputR (h : CR M F X XF G) (hK : 40 ≤ K) : RO (fX4_inputResistance K (M, g, F)) (fX0_inputResistance K (X, gx, XF, G, P)) M F X XF G P := by
  obtain ⟨g1, a1, a2, a3, a4⟩ := workM (g := g) h.t hK h.s.v_st h.s.v_fq
  obtain ⟨X2, g2, b1, b2, b3⟩ := here' (gx := gx) (P := P) h hK
  have e : g1 34 = g2 32 := congrArg Prod.fst (a2.trans b3.2.1.symm)
  refine ⟨g1 34, g1, X2, g2, ?_, ?_, b2⟩
  · unfold fX4_inputResistance
    rw [if_neg h.nl]
    refine (ga_t (by decide)).trans ((ga_t (by decide)).trans ((b1_e a1).trans rfl))
  · unfold fX0_inputResistance
    refine (b2_e (readyX K _)).trans ?_
    rw [if_pos rfl]
    refine (b1_e b1).trans ?_
    rw [e]
theorem p_inputX (h : CR M F X XF G) (hK : 40 ≤ K) : RO (fX4_inputReactance K (M, g, F)) (fX0_inputReactance K (X, gx, XF, G, P)) M F X XF G P := by
  obtain ⟨g1, a1, a2, a3, a4⟩ := workM (g := g) h.t hK h.s.v_st h.s.v_fq
  obtain ⟨X2, g2, b1, b2, b3⟩ := here' (gx := gx) (P := P) h hK
  have e : g1 35 = g2 33 := congrArg Prod.snd (a2.trans b3.2.1.symm)
  refine ⟨g1 35, g1, X2, g2, ?_, ?_, b2⟩
  · unfold fX4_inputReactance
    rw [if_neg h.nl]
    refine (ga_t (by decide)).trans ((ga_t (by decide)).trans ((b1_e a1).trans rfl))
  · unfold fX0_inputReactance
    refine (b2_e (readyX K _)).trans ?_
    rw [if_pos rfl]
    refine (b1_e b1).trans ?_
    rw [e]
theorem presM (h : CR M F X XF G) (hK : 40 ≤ K) : ∃ g1, fX4_present K (M, g, F) = some (swV M F (F 0 1) (F 0 0), (M, g1, F)) := by
  obtain ⟨g1, a1⟩ := ratioM (g := g) h.t hK h.s.v_st h.s.v_fq
  refine ⟨g1, ?_⟩
  unfold fX4_present
  exact (ga_t (by decide)).trans ((ga_t (by decide)).trans ((b2_e a1).trans rfl))
theorem p_swr (h : CR M F X XF G) (hK : 40 ≤ K) : RO (fX4_swr K (M, g, F)) (fX0_swr K (X, gx, XF, G, P)) M F X XF G P := by
  obtain ⟨g1, a1⟩ := presM (g := g) h hK
  obtain ⟨X2, g2, b1, b2, b3⟩ := here' (gx := gx) (P := P) h hK
  refine ⟨swV M F (F 0 1) (F 0 0), g1, X2, g2, ?_, ?_, b2⟩
  · unfold fX4_swr
    rw [if_neg h.nl]
    exact (b2_e a1).trans rfl
  · unfold fX0_swr
    refine (b2_e (readyX K _)).trans ?_
    rw [if_pos rfl]
    exact (b1_e b1).trans ((b2_e (swr' hK b3)).trans rfl)
theorem p_eff (h : CR M F X XF G) (hK : 40 ≤ K) : RO (fX4_efficiency K (M, g, F)) (fX0_efficiency K (X, gx, XF, G, P)) M F X XF G P := by
  obtain ⟨g1, a1, -⟩ := effM (g := g) h.t hK h.s.v_st h.s.v_fq
  obtain ⟨X2, g2, b1, b2, b3⟩ := here' (gx := gx) (P := P) h hK
  refine ⟨efV M F (F 0 1) (F 0 0), g1, X2, g2, ?_, ?_, b2⟩
  · unfold fX4_efficiency
    rw [if_neg h.nl]
    exact (ga_t (by decide)).trans ((b2_e a1).trans rfl)
  · unfold fX0_efficiency
    refine (b2_e (readyX K _)).trans ?_
    rw [if_pos rfl]
    exact (b1_e b1).trans ((b2_e (eff' b3)).trans rfl)
theorem p_vol (h : CR M F X XF G) (hK : 40 ≤ K) : RO (fX4_capacitorVoltage K (M, g, F)) (fX0_capacitorVoltage K (X, gx, XF, G, P)) M F X XF G P := by
  obtain ⟨g1, a1⟩ := volM (g := g) h.t hK (M 7) h.s.v_st h.s.v_fq
  obtain ⟨X2, g2, b1, b2, b3⟩ := here' (gx := gx) (P := P) h hK
  have hp := h.t.v_pow
  have c := vol' (P := P) (G := G) (XF := XF) h hK (w := M 7) b3 h.s.v_st h.s.v_fq (by omega)
  refine ⟨voV M F (F 0 1) (F 0 0) (M 7), g1, X2, g2, ?_, ?_, b2⟩
  · unfold fX4_capacitorVoltage
    rw [if_neg h.nl]
    exact (ga_t (by decide)).trans ((b2_e a1).trans rfl)
  · unfold fX0_capacitorVoltage
    refine (b2_e (readyX K _)).trans ?_
    rw [if_pos rfl]
    refine (b1_e b1).trans ((b2_e (v := _) (w := _) ?_).trans rfl)
    unfold fX3_voltage
    have e : X2 43 = M 7 := by rw [b2 _ (by decide)]; exact h.t.pow
    simp only [e]
    exact (b2_e c).trans rfl
theorem p_swrAt (h : CR M F X XF G) (hK : 40 ≤ K) (f : Int32) : RO (fX4_swrAt K f (M, g, F)) (fX0_swrAt K f (X, gx, XF, G, P)) M F X XF G P := by
  by_cases hf : 1500 ≤ f.toInt ∧ f.toInt ≤ 30000
  · obtain ⟨g1, a1⟩ := ratioM (g := g) h.t hK h.s.v_st hf
    obtain ⟨X2, g2, b1, b2, b3⟩ := swrOf' (gx := gx) (P := P) h hK hf
    refine ⟨swV M F (F 0 1) f, g1, X2, g2, ?_, ?_, b2⟩
    · unfold fX4_swrAt
      rw [if_neg h.nl]
      refine (b1_e (isFreqM K f)).trans ?_
      rw [decide_eq_true hf, if_pos rfl]
      exact (ga_t (by decide)).trans ((b2_e a1).trans rfl)
    · unfold fX0_swrAt
      refine (b2_e (readyX K _)).trans ?_
      rw [if_pos rfl]
      refine (b1_e (isFreqX K f)).trans ?_
      rw [decide_eq_true hf, if_pos rfl]
      exact (b2_e b1).trans rfl
  · refine ⟨-1, g, X, gx, ?_, ?_, fun _ _ => rfl⟩
    · unfold fX4_swrAt
      rw [if_neg h.nl]
      refine (b1_e (isFreqM K f)).trans ?_
      rw [decide_eq_false hf]
      rfl
    · unfold fX0_swrAt
      refine (b2_e (readyX K _)).trans ?_
      rw [if_pos rfl]
      refine (b1_e (isFreqX K f)).trans ?_
      rw [decide_eq_false hf]
      rfl
theorem tog {a b c : Int32} (h : (0 ≤ a.toInt ∧ a.toInt ≤ 1) ∧ (0 ≤ b.toInt ∧ b.toInt ≤ 63) ∧ (0 ≤ c.toInt ∧ c.toInt ≤ 63)) : 0 ≤ (4096 * a + 64 * b + c).toInt ∧ (4096 * a + 64 * b + c).toInt ≤ 8191 ∧ (4096 * a + 64 * b + c).toInt = 4096 * a.toInt + 64 * b.toInt + c.toInt := by
  have e1 : (4096 : Int32).toInt = 4096 := rfl
  have e2 : (64 : Int32).toInt = 64 := rfl
  have m1 : (4096 * a).toInt = 4096 * a.toInt := by rw [m32, e1] <;> rw [e1] <;> omega
  have m2 : (64 * b).toInt = 64 * b.toInt := by rw [m32, e2] <;> rw [e2] <;> omega
  have a1 : (4096 * a + 64 * b).toInt = 4096 * a.toInt + 64 * b.toInt := by rw [a32, m1, m2] <;> rw [m1, m2] <;> omega
  have a2 : (4096 * a + 64 * b + c).toInt = 4096 * a.toInt + 64 * b.toInt + c.toInt := by rw [a32, a1] <;> rw [a1] <;> omega
  omega
theorem p_swrWith (h : CR M F X XF G) (hK : 40 ≤ K) (a b c : Int32) : RO (fX4_swrWith K a b c (M, g, F)) (fX0_swrWith K a b c (X, gx, XF, G, P)) M F X XF G P := by
  by_cases hf : (0 ≤ a.toInt ∧ a.toInt ≤ 1) ∧ (0 ≤ b.toInt ∧ b.toInt ≤ 63) ∧ (0 ≤ c.toInt ∧ c.toInt ≤ 63)
  · have ht := tog hf
    obtain ⟨g1, a1⟩ := ratioM (g := g) h.t hK ⟨ht.1, ht.2.1⟩ h.s.v_fq
    obtain ⟨X2, g2, b1, b2, b3⟩ := swrBy' (gx := gx) (P := P) h hK ⟨ht.1, ht.2.1⟩
    refine ⟨swV M F (4096 * a + 64 * b + c) (F 0 0), g1, X2, g2, ?_, ?_, b2⟩
    · unfold fX4_swrWith
      rw [if_neg h.nl]
      refine (b1_e (areM K a b c)).trans ?_
      rw [decide_eq_true hf, if_pos rfl]
      refine (b1_e (show fX4_together K a b c = some (4096 * a + 64 * b + c) from rfl)).trans ?_
      exact (ga_t (by decide)).trans ((b2_e a1).trans rfl)
    · unfold fX0_swrWith
      refine (b2_e (areX K a b c _)).trans ?_
      rw [decide_eq_true hf, if_pos rfl]
      refine (b1_e (show fX2_init K a b c _ = some (a, b, c) from rfl)).trans ?_
      refine (b2_e (show fX2_code K (a, b, c) = some (4096 * a + 64 * b + c, (a, b, c)) from rfl)).trans ?_
      exact (b2_e b1).trans rfl
  · refine ⟨-1, g, X, gx, ?_, ?_, fun _ _ => rfl⟩
    · unfold fX4_swrWith
      rw [if_neg h.nl]
      refine (b1_e (areM K a b c)).trans ?_
      rw [decide_eq_false hf]
      rfl
    · unfold fX0_swrWith
      refine (b2_e (areX K a b c _)).trans ?_
      rw [decide_eq_false hf]
      rfl
theorem p_antR (h : CR M F X XF G) (hK : 40 ≤ K) (f : Int32) : RO (fX4_antennaResistance K f (M, g, F)) (fX0_antennaResistance K f (X, gx, XF, G, P)) M F X XF G P := by
  by_cases hf : 1500 ≤ f.toInt ∧ f.toInt ≤ 30000
  · refine ⟨itp M F 12 f, g, X, gx, ?_, ?_, fun _ _ => rfl⟩
    · unfold fX4_antennaResistance
      rw [if_neg h.nl]
      refine (b1_e (isFreqM K f)).trans ?_
      rw [decide_eq_true hf, if_pos rfl]
      exact (b2_e (resM h.t (by omega) f)).trans rfl
    · unfold fX0_antennaResistance
      refine (b2_e (readyX K _)).trans ?_
      rw [if_pos rfl]
      refine (b1_e (isFreqX K f)).trans ?_
      rw [decide_eq_true hf, if_pos rfl]
      exact (b1_e (resX h.t (by omega) f)).trans rfl
  · refine ⟨-1, g, X, gx, ?_, ?_, fun _ _ => rfl⟩
    · unfold fX4_antennaResistance
      rw [if_neg h.nl]
      refine (b1_e (isFreqM K f)).trans ?_
      rw [decide_eq_false hf]
      rfl
    · unfold fX0_antennaResistance
      refine (b2_e (readyX K _)).trans ?_
      rw [if_pos rfl]
      refine (b1_e (isFreqX K f)).trans ?_
      rw [decide_eq_false hf]
      rfl
theorem p_antX (h : CR M F X XF G) (hK : 40 ≤ K) (f : Int32) : RO (fX4_antennaReactance K f (M, g, F)) (fX0_antennaReactance K f (X, gx, XF, G, P)) M F X XF G P := by
  by_cases hf : 1500 ≤ f.toInt ∧ f.toInt ≤ 30000
  · refine ⟨itp M F 13 f, g, X, gx, ?_, ?_, fun _ _ => rfl⟩
    · unfold fX4_antennaReactance
      rw [if_neg h.nl]
      refine (b1_e (isFreqM K f)).trans ?_
      rw [decide_eq_true hf, if_pos rfl]
      exact (b2_e (reaM h.t (by omega) f)).trans rfl
    · unfold fX0_antennaReactance
      refine (b2_e (readyX K _)).trans ?_
      rw [if_pos rfl]
      refine (b1_e (isFreqX K f)).trans ?_
      rw [decide_eq_true hf, if_pos rfl]
      exact (b1_e (reaX h.t (by omega) f)).trans rfl
  · refine ⟨-9223372036854775808, g, X, gx, ?_, ?_, fun _ _ => rfl⟩
    · unfold fX4_antennaReactance
      rw [if_neg h.nl]
      refine (b1_e (isFreqM K f)).trans ?_
      rw [decide_eq_false hf]
      rfl
    · unfold fX0_antennaReactance
      refine (b2_e (readyX K _)).trans ?_
      rw [if_pos rfl]
      refine (b1_e (isFreqX K f)).trans ?_
      rw [decide_eq_false hf]
      rfl
end OPS
theorem k32_1 : (1 : Int32).toInt = 1 := rfl
theorem k32_m1 : (-1 : Int32).toInt = -1 := rfl
theorem k32_0 : (0 : Int32).toInt = 0 := rfl
theorem k32_10 : (10 : Int32).toInt = 10 := rfl
theorem k32_m10 : (-10 : Int32).toInt = -10 := rfl
theorem le32' {a b : Int32} {x y : Int} (ha : a.toInt = x) (hb : b.toInt = y) : a ≤ b ↔ x ≤ y := by rw [le32, ha, hb]
theorem lt32' {a b : Int32} {x y : Int} (ha : a.toInt = x) (hb : b.toInt = y) : a < b ↔ x < y := by rw [lt32, ha, hb]
section OPS
variable {K : Nat} {M : Nat → Int32} {F : Nat → Nat → Int32} {X : Nat → Int32} {XF : Nat → Nat → Int32} {G : Nat → Nat → Int64} {g gx : Nat → Int64} {P : Nat → Nat → Option Nat}
theorem gp_L (h : CR M F X XF G) (hK : 40 ≤ K) {X2 : Nat → Int32} {g2 : Nat → Int64} (hx : ∀ k, k ≠ 20 → X2 k = X k) (ha : At M F (F 0 1) (F 0 0) X2 g2) (n : Nat) : ∀ (m : Nat) (w : Int32) (g : Nat → Int64), w.toInt = n → n ≤ 1500 → n + 1 ≤ m → ∃ r g1, fX4_greatestPower_L13 K m w (M, g, F) = some (r, (M, g1, F)) ∧ fX0_greatestPower_L18 K m w (X2, g2, XF, G, P) = some (r, (X2, g2, XF, G, P)) := by
  induction n with
  | zero =>
    intro m w g hw _ hm
    obtain ⟨m, rfl⟩ : ∃ k, m = k + 1 := ⟨m - 1, by omega⟩
    refine ⟨-2, g, ?_, ?_⟩
    · rw [fX4_greatestPower_L13, if_pos (by rw [le32]; show _ ≤ (0 : Int); omega)]
    · rw [fX0_greatestPower_L18, if_pos (by rw [lt32, k32_1]; omega)]
  | succ n ih =>
    intro m w g hw hn hm
    obtain ⟨m, rfl⟩ : ∃ k, m = k + 1 := ⟨m - 1, by omega⟩
    obtain ⟨g1, a1⟩ := volM (g := g) h.t hK w h.s.v_st h.s.v_fq
    have a2 := vol' (P := P) (G := G) (XF := XF) h hK (w := w) ha h.s.v_st h.s.v_fq (by omega)
    rw [fX4_greatestPower_L13, if_neg (by rw [le32]; show ¬ _ ≤ (0 : Int); omega), fX0_greatestPower_L18, if_neg (by rw [lt32, k32_1]; omega)]
    rw [ga_t (by decide), b2_e (show fX4_voltageOf K ((M, g, F).2.2 0 (1 : Int32).toNatClampNeg) w (M, g, F) = _ from a1), b2_e a2]
    have e44 : X2 44 = M 8 := by rw [hx _ (by decide)]; exact h.t.rat
    simp only [e44]
    by_cases c : M 8 < voV M F (F 0 1) (F 0 0) w
    · rw [if_pos c, if_pos c]
      have e : (w + -1).toInt = n := by rw [a32, k32_m1] <;> (try rw [k32_m1]) <;> omega
      exact ih m (w + -1) g1 e (by omega) (by omega)
    · rw [if_neg c, if_neg c]
      exact ⟨w, g1, rfl, rfl⟩
theorem p_great (h : CR M F X XF G) (hK : 2000 ≤ K) : RO (fX4_greatestPower K (M, g, F)) (fX0_greatestPower K (X, gx, XF, G, P)) M F X XF G P := by
  obtain ⟨X2, g2, b1, b2, b3⟩ := here' (gx := gx) (P := P) h (by omega : 40 ≤ K)
  obtain ⟨r, g1, c1, c2⟩ := gp_L (P := P) h (by omega : 40 ≤ K) b2 b3 1500 K 1500 g rfl (by omega) (by omega)
  refine ⟨r, g1, X2, g2, ?_, ?_, b2⟩
  · unfold fX4_greatestPower
    rw [if_neg h.nl]
    exact c1
  · unfold fX0_greatestPower
    refine (b2_e (readyX K _)).trans ?_
    rw [if_pos rfl]
    exact (b1_e b1).trans c2
theorem scr_tr {X X2 X3 : Nat → Int32} (h1 : ∀ k, k ≠ 20 → X2 k = X k) (h2 : ∀ k, k ≠ 20 → X3 k = X2 k) : ∀ k, k ≠ 20 → X3 k = X k := fun k hk => (h2 k hk).trans (h1 k hk)
theorem best_L (h : CR M F X XF G) (hK : 40 ≤ K) (n : Nat) : ∀ (m : Nat) (b l s : Int32) (g : Nat → Int64) (X2 : Nat → Int32) (g2 : Nat → Int64), (∀ k, k ≠ 20 → X2 k = X k) → s.toInt = 8192 - n → n ≤ 8192 → n + 1 ≤ m → RO (fX4_bestSettings_L17 K m b l s (M, g, F)) (fX0_bestSettings_L17 K m b l s (X2, g2, XF, G, P)) M F X XF G P := by
  have k8 : (8192 : Int32).toInt = 8192 := rfl
  induction n with
  | zero =>
    intro m b l s g X2 g2 hx hs _ hm
    obtain ⟨m, rfl⟩ : ∃ k, m = k + 1 := ⟨m - 1, by omega⟩
    refine ⟨b, g, X2, g2, ?_, ?_, hx⟩
    · rw [fX4_bestSettings_L17, if_pos (by rw [le32, k8]; omega)]
    · rw [fX0_bestSettings_L17, if_pos (by rw [le32, k8]; omega)]
  | succ n ih =>
    intro m b l s g X2 g2 hx hs hn hm
    obtain ⟨m, rfl⟩ : ∃ k, m = k + 1 := ⟨m - 1, by omega⟩
    obtain ⟨g1, a1⟩ := ratioM (g := g) h.t hK (s := s) (by omega) h.s.v_fq
    obtain ⟨X3, g3, b1, b2, b3⟩ := swrBy' (gx := g2) (P := P) (h.scr hx) hK (s := s) (by omega)
    rw [fX4_bestSettings_L17, if_neg (by rw [le32, k8]; omega), fX0_bestSettings_L17, if_neg (by rw [le32, k8]; omega)]
    rw [ga_t (by decide), b2_e (show fX4_ratio K s ((M, g, F).2.2 0 (0 : Int32).toNatClampNeg) (M, g, F) = _ from a1), b2_e b1]
    have e : (s + 1).toInt = 8192 - n := by rw [a32, k32_1] <;> (try rw [k32_1]) <;> omega
    have hx3 := scr_tr hx b2
    by_cases c : l ≤ swV M F s (F 0 0)
    · rw [if_pos c, if_pos c]
      exact ih m b l (s + 1) g1 X3 g3 hx3 e (by omega) (by omega)
    · rw [if_neg c, if_neg c]
      exact ih m s _ (s + 1) g1 X3 g3 hx3 e (by omega) (by omega)
theorem p_best (h : CR M F X XF G) (hK : 9000 ≤ K) : RO (fX4_bestSettings K (M, g, F)) (fX0_bestSettings K (X, gx, XF, G, P)) M F X XF G P := by
  obtain ⟨r, g1, X2, g2, c1, c2, c3⟩ := best_L (P := P) h (by omega : 40 ≤ K) 8192 K 0 100000 0 g X gx (fun _ _ => rfl) rfl (by omega) (by omega)
  refine ⟨r, g1, X2, g2, ?_, ?_, c3⟩
  · unfold fX4_bestSettings
    rw [if_neg h.nl]
    exact c1
  · unfold fX0_bestSettings
    refine (b2_e (readyX K _)).trans ?_
    rw [if_pos rfl]
    exact c2
theorem most_L (h : CR M F X XF G) (hK : 40 ≤ K) (n : Nat) : ∀ (m : Nat) (b l s : Int32) (g : Nat → Int64) (X2 : Nat → Int32) (g2 : Nat → Int64), (∀ k, k ≠ 20 → X2 k = X k) → s.toInt = 8192 - n → n ≤ 8192 → n + 1 ≤ m → RO (fX4_mostEfficient_L16 K m b l s (M, g, F)) (fX0_mostEfficient_L16 K m b l s (X2, g2, XF, G, P)) M F X XF G P := by
  have k8 : (8192 : Int32).toInt = 8192 := rfl
  induction n with
  | zero =>
    intro m b l s g X2 g2 hx hs _ hm
    obtain ⟨m, rfl⟩ : ∃ k, m = k + 1 := ⟨m - 1, by omega⟩
    refine ⟨b, g, X2, g2, ?_, ?_, hx⟩
    · rw [fX4_mostEfficient_L16, if_pos (by rw [le32, k8]; omega)]
    · rw [fX0_mostEfficient_L16, if_pos (by rw [le32, k8]; omega)]
  | succ n ih =>
    intro m b l s g X2 g2 hx hs hn hm
    obtain ⟨m, rfl⟩ : ∃ k, m = k + 1 := ⟨m - 1, by omega⟩
    obtain ⟨g1, a1⟩ := ratioM (g := g) h.t hK (s := s) (by omega) h.s.v_fq
    obtain ⟨X3, g3, b1, b2, b3⟩ := swrBy' (gx := g2) (P := P) (h.scr hx) hK (s := s) (by omega)
    rw [fX4_mostEfficient_L16, if_neg (by rw [le32, k8]; omega), fX0_mostEfficient_L16, if_neg (by rw [le32, k8]; omega)]
    rw [ga_t (by decide), b2_e (show fX4_ratio K s ((M, g, F).2.2 0 (0 : Int32).toNatClampNeg) (M, g, F) = _ from a1), b2_e b1]
    have e : (s + 1).toInt = 8192 - n := by rw [a32, k32_1] <;> (try rw [k32_1]) <;> omega
    have hx3 := scr_tr hx b2
    have e45 : X3 45 = M 9 := by rw [hx3 _ (by decide)]; exact h.t.gsw
    simp only [e45]
    by_cases c : M 9 < swV M F s (F 0 0)
    · have c' : ¬ swV M F s (F 0 0) ≤ M 9 := by rw [le32]; rw [lt32] at c; omega
      rw [if_pos c, if_neg c']
      unfold fX0_mostEfficient_L43
      rw [if_pos rfl]
      exact ih m b l (s + 1) g1 X3 g3 hx3 e (by omega) (by omega)
    · have c' : swV M F s (F 0 0) ≤ M 9 := by rw [le32]; rw [lt32] at c; omega
      rw [if_neg c, if_pos c']
      obtain ⟨g4, a4, -⟩ := effM (g := g1) h.t hK (s := s) (by omega) h.s.v_fq
      unfold fX0_mostEfficient_L43
      rw [if_neg (by decide), b2_e a4, b2_e (eff' b3)]
      by_cases c3 : efV M F s (F 0 0) ≤ l
      · rw [if_pos c3, if_pos c3]
        exact ih m b l (s + 1) g4 X3 g3 hx3 e (by omega) (by omega)
      · rw [if_neg c3, if_neg c3]
        rw [b2_e (eff' b3)]
        exact ih m s _ (s + 1) g4 X3 g3 hx3 e (by omega) (by omega)
theorem p_most (h : CR M F X XF G) (hK : 9000 ≤ K) : RO (fX4_mostEfficient K (M, g, F)) (fX0_mostEfficient K (X, gx, XF, G, P)) M F X XF G P := by
  obtain ⟨r, g1, X2, g2, c1, c2, c3⟩ := most_L (P := P) h (by omega : 40 ≤ K) 8192 K (-2) (-1) 0 g X gx (fun _ _ => rfl) rfl (by omega) (by omega)
  refine ⟨r, g1, X2, g2, ?_, ?_, c3⟩
  · unfold fX4_mostEfficient
    rw [if_neg h.nl]
    exact c1
  · unfold fX0_mostEfficient
    refine (b2_e (readyX K _)).trans ?_
    rw [if_pos rfl]
    exact c2
/-- matched at a frequency -/
theorem matX (h : CR M F X XF G) (hK : 40 ≤ K) {f : Int32} (hf : 1500 ≤ f.toInt ∧ f.toInt ≤ 30000) : ∃ X2 g2, fX0_isMatched K f (X, gx, XF, G, P) = some (decide (swV M F (F 0 1) f ≤ M 9), (X2, g2, XF, G, P)) ∧ (∀ k, k ≠ 20 → X2 k = X k) := by
  obtain ⟨X2, g2, b1, b2, b3⟩ := swrOf' (gx := gx) (P := P) h hK hf
  refine ⟨X2, g2, ?_, b2⟩
  unfold fX0_isMatched
  refine (b2_e b1).trans ?_
  have e45 : X2 45 = M 9 := by rw [b2 _ (by decide)]; exact h.t.gsw
  simp only [e45]
  by_cases c : M 9 < swV M F (F 0 1) f
  · rw [if_pos c, decide_eq_false (by rw [le32]; rw [lt32] at c; omega)]
  · rw [if_neg c, decide_eq_true (by rw [le32]; rw [lt32] at c; omega)]
theorem far_L (h : CR M F X XF G) (hK : 40 ≤ K) (by' : Int32) (hb : by' = 10 ∨ by' = -10) (n : Nat) : ∀ (m : Nat) (last f : Int32) (g : Nat → Int64) (X2 : Nat → Int32) (g2 : Nat → Int64), (∀ k, k ≠ 20 → X2 k = X k) → (1500 ≤ last.toInt ∧ last.toInt ≤ 30000) → f = last + by' → (by' = 10 → 30000 - last.toInt < n) → (by' = -10 → last.toInt - 1500 < n) → n + 1 ≤ m → RO (fX4_lastMatched_L10 K m by' last f (M, g, F)) (fX0_farthestMatched_L25 K m by' last (X2, g2, XF, G, P)) M F X XF G P := by
  have hbi : by'.toInt = 10 ∨ by'.toInt = -10 := by
    rcases hb with rfl | rfl
    · left; rfl
    · right; rfl
  induction n with
  | zero =>
    intro m last f g X2 g2 hx hl hf h1 h2 hm
    rcases hb with hb | hb
    · have := h1 hb; omega
    · have := h2 hb; omega
  | succ n ih =>
    intro m last f g X2 g2 hx hl hf h1 h2 hm
    obtain ⟨m, rfl⟩ : ∃ k, m = k + 1 := ⟨m - 1, by omega⟩
    subst hf
    have e : (last + by').toInt = last.toInt + by'.toInt := a32 (by omega) (by omega)
    rw [fX4_lastMatched_L10, fX0_farthestMatched_L25, b1_e (isFreqM K _), b1_e (isFreqX K _)]
    by_cases hf : 1500 ≤ (last + by').toInt ∧ (last + by').toInt ≤ 30000
    · simp only [decide_eq_true hf, if_true]
      obtain ⟨g1, a1⟩ := ratioM (g := g) h.t hK h.s.v_st hf
      obtain ⟨X3, g3, b1, b2⟩ := matX (gx := g2) (P := P) (h.scr hx) hK hf
      rw [ga_t (by decide), b2_e (show fX4_ratio K ((M, g, F).2.2 0 (1 : Int32).toNatClampNeg) (last + by') (M, g, F) = _ from a1), b2_e b1]
      have hx3 := scr_tr hx b2
      by_cases c : M 9 < swV M F (F 0 1) (last + by')
      · have c' : ¬ swV M F (F 0 1) (last + by') ≤ M 9 := by rw [le32]; rw [lt32] at c; omega
        simp only [decide_eq_false c', if_pos c]
        exact ⟨last, g1, X3, g3, rfl, rfl, hx3⟩
      · have c' : swV M F (F 0 1) (last + by') ≤ M 9 := by rw [le32]; rw [lt32] at c; omega
        simp only [decide_eq_true c', if_neg c, if_true, nm]
        refine ih m (last + by') _ g1 X3 g3 hx3 hf rfl (fun q => ?_) (fun q => ?_) (by omega)
        · have := h1 q
          have h10 : by'.toInt = 10 := by rw [q]; rfl
          omega
        · have := h2 q
          have h10 : by'.toInt = -10 := by rw [q]; rfl
          omega
    · simp only [decide_eq_false hf]
      exact ⟨last, g, X2, g2, rfl, rfl, hx⟩
theorem far_mono (K : Nat) (n : Nat) : ∀ (by' f : Int32) (ξ : XS) (y : Int32 × XS), fX0_farthestMatched_L25 K n by' f ξ = some y → fX0_farthestMatched_L25 K (n + 1) by' f ξ = some y := by
  induction n with
  | zero => intro _ _ _ _ h; cases h
  | succ n ih =>
    intro by' f ξ y h
    rw [fX0_farthestMatched_L25] at h ⊢
    rw [b1_e (isFreqX K _)] at h ⊢
    split
    · rename_i c
      rw [if_pos c] at h
      cases hm : fX0_isMatched K (f + by') ξ with
      | none => rw [hm] at h; cases h
      | some q =>
        obtain ⟨q1, q2⟩ := q
        rw [hm] at h
        change (if q1 = true then fX0_farthestMatched_L25 K (n + 1) by' (f + by') q2 else some (f, q2)) = some y
        change (if q1 = true then fX0_farthestMatched_L25 K n by' (f + by') q2 else some (f, q2)) = some y at h
        by_cases c2 : q1 = true
        · rw [if_pos c2] at h ⊢
          exact ih _ _ _ _ h
        · rw [if_neg c2] at h ⊢
          exact h
    · rename_i c
      rw [if_neg c] at h
      exact h
theorem p_far (h : CR M F X XF G) (hK : 30000 ≤ K) (by' : Int32) (hb : by' = 10 ∨ by' = -10) : RO (fX4_lastMatched K by' (M, g, F)) (fX0_farthestMatched K by' (X, gx, XF, G, P)) M F X XF G P := by
  have hq := h.s.v_fq
  obtain ⟨g1, a1⟩ := ratioM (g := g) h.t (by omega : 40 ≤ K) h.s.v_st h.s.v_fq
  obtain ⟨X3, g3, b1, b2⟩ := matX (gx := gx) (P := P) h (by omega : 40 ≤ K) h.s.v_fq
  have hfx : fX0_farthestMatched K by' (X, gx, XF, G, P) = if swV M F (F 0 1) (F 0 0) ≤ M 9 then fX0_farthestMatched_L25 K K by' (F 0 0) (X3, g3, XF, G, P) else some (-2, (X3, g3, XF, G, P)) := by
    unfold fX0_farthestMatched
    simp only [h.s.fq]
    refine (b2_e b1).trans ?_
    have e60 : X3 60 = F 0 0 := by rw [b2 _ (by decide)]; exact h.s.fq
    simp only [e60, nm]
    by_cases c : swV M F (F 0 1) (F 0 0) ≤ M 9
    · simp only [decide_eq_true c, if_pos c, if_true]
    · simp only [decide_eq_false c, if_neg c]
      rfl
  obtain ⟨J, hJ⟩ : ∃ J, K = J + 1 := ⟨K - 1, by omega⟩
  have hfm : fX4_lastMatched K by' (M, g, F) = if swV M F (F 0 1) (F 0 0) ≤ M 9 then fX4_lastMatched_L10 K J by' (F 0 0) (F 0 0 + by') (M, g1, F) else some (-2, (M, g1, F)) := by
    unfold fX4_lastMatched
    rw [ga_t (by decide)]
    simp only [nm]
    show fX4_lastMatched_L10 K K by' (-2) (F 0 0) (M, g, F) = _
    conv => lhs; arg 2; rw [hJ]
    rw [fX4_lastMatched_L10, b1_e (isFreqM K _)]
    simp only [decide_eq_true hq, if_true]
    rw [ga_t (by decide), b2_e (show fX4_ratio K ((M, g, F).2.2 0 (1 : Int32).toNatClampNeg) (F 0 0) (M, g, F) = _ from a1)]
    by_cases c : M 9 < swV M F (F 0 1) (F 0 0)
    · have c' : ¬ swV M F (F 0 1) (F 0 0) ≤ M 9 := by rw [le32]; rw [lt32] at c; omega
      rw [if_neg c', if_pos c]
    · have c' : swV M F (F 0 1) (F 0 0) ≤ M 9 := by rw [le32]; rw [lt32] at c; omega
      rw [if_pos c', if_neg c]
      rfl
  rw [hfx, hfm]
  by_cases c : swV M F (F 0 1) (F 0 0) ≤ M 9
  · rw [if_pos c, if_pos c]
    have hJX : ∀ J2, J2 ≥ 28502 → ∃ r g1' X2 g2, fX4_lastMatched_L10 K J by' (F 0 0) (F 0 0 + by') (M, g1, F) = some (r, (M, g1', F)) ∧ fX0_farthestMatched_L25 K J by' (F 0 0) (X3, g3, XF, G, P) = some (r, (X2, g2, XF, G, P)) ∧ ∀ k, k ≠ 20 → X2 k = X k := fun J2 _ => far_L (P := P) h (by omega : 40 ≤ K) by' hb 28501 J (F 0 0) _ g1 X3 g3 b2 hq rfl (fun _ => by omega) (fun _ => by omega) (by omega)
    obtain ⟨r, g4, X4, g5, c1, c2, c3⟩ := hJX 28502 (by omega)
    refine ⟨r, g4, X4, g5, c1, ?_, c3⟩
    have c4 := far_mono K J _ _ _ _ c2
    rw [← hJ] at c4
    exact c4
  · rw [if_neg c, if_neg c]
    exact ⟨-2, g1, X3, g3, rfl, rfl, b2⟩
end OPS
section OPS
variable {K : Nat} {M : Nat → Int32} {F : Nat → Nat → Int32} {X : Nat → Int32} {XF : Nat → Nat → Int32} {G : Nat → Nat → Int64} {g gx : Nat → Int64} {P : Nat → Nat → Option Nat}
theorem worst_L (h : CR M F X XF G) (hK : 40 ≤ K) (b : Int32) (hb : 0 ≤ b.toInt ∧ b.toInt < (M 14).toInt) (n : Nat) : ∀ (m : Nat) (w l f : Int32) (g : Nat → Int64) (X2 : Nat → Int32) (g2 : Nat → Int64), (∀ k, k ≠ 20 → X2 k = X k) → 1500 ≤ f.toInt → f.toInt ≤ 30010 → (F 16 b.toNatClampNeg).toInt - f.toInt < n → n + 1 ≤ m → RO (fX4_worstInBand_L42 K m b w l f (M, g, F)) (fX0_worstInBand_L41 K m b w l f (X2, g2, XF, G, P)) M F X XF G P := by
  have hbn : (b.toNatClampNeg : Int) = b.toInt := nn32 hb.1
  have hv := h.t.v_band b.toNatClampNeg (by omega)
  have h8 := h.t.v_bds
  have hbh := h.t.bh b.toNatClampNeg (by omega)
  induction n with
  | zero =>
    intro m w l f g X2 g2 hx h1 h2 h3 hm
    obtain ⟨m, rfl⟩ : ∃ k, m = k + 1 := ⟨m - 1, by omega⟩
    refine ⟨w, g, X2, g2, ?_, ?_, hx⟩
    · rw [fX4_worstInBand_L42, ga_t ⟨by omega, by omega⟩, if_pos (by rw [lt32]; show (F 16 b.toNatClampNeg).toInt < _; omega)]
    · rw [fX0_worstInBand_L41, ga_t ⟨by omega, by omega⟩]
      simp only [hbh]
      rw [if_pos (by rw [lt32]; omega)]
  | succ n ih =>
    intro m w l f g X2 g2 hx h1 h2 h3 hm
    obtain ⟨m, rfl⟩ : ∃ k, m = k + 1 := ⟨m - 1, by omega⟩
    have hxb : ix b 8 := ⟨by omega, by omega⟩
    have hx1 : ix (1 : Int32) 254 := by decide
    rw [fX4_worstInBand_L42, fX0_worstInBand_L41]
    simp only [hbh, ga_t hxb, ga_t hx1]
    by_cases c : F 16 b.toNatClampNeg < f
    · rw [if_pos c, if_pos c]
      exact ⟨w, g, X2, g2, rfl, rfl, hx⟩
    · rw [if_neg c, if_neg c]
      rw [lt32] at c
      obtain ⟨g1, a1⟩ := ratioM (g := g) h.t hK h.s.v_st (f := f) (by omega)
      obtain ⟨X3, g3, b1, b2, b3⟩ := swrOf' (gx := g2) (P := P) (h.scr hx) hK (f := f) (by omega)
      rw [b2_e (show fX4_ratio K (F 0 (1 : Int32).toNatClampNeg) f (M, g, F) = _ from a1), b2_e b1]
      have e : (f + 10).toInt = f.toInt + 10 := by rw [a32, k32_10] <;> (try rw [k32_10]) <;> omega
      have hx3 := scr_tr hx b2
      by_cases c2 : swV M F (F 0 1) f ≤ l
      · rw [if_pos c2, if_pos c2]
        exact ih m w l (f + 10) g1 X3 g3 hx3 (by omega) (by omega) (by omega) (by omega)
      · rw [if_neg c2, if_neg c2]
        exact ih m f _ (f + 10) g1 X3 g3 hx3 (by omega) (by omega) (by omega) (by omega)
theorem p_worst (h : CR M F X XF G) (hK : 30000 ≤ K) (b : Int32) : RO (fX4_worstInBand K b (M, g, F)) (fX0_worstInBand K b (X, gx, XF, G, P)) M F X XF G P := by
  have h8 := h.t.v_bds
  have e1 : (M 14 - 1).toInt = (M 14).toInt - 1 := by rw [s32, k32_1] <;> (try rw [k32_1]) <;> omega
  have eb := h.t.bds
  by_cases hb : 0 ≤ b.toInt ∧ b.toInt ≤ (M 14 - 1).toInt
  · have hbn : (b.toNatClampNeg : Int) = b.toInt := nn32 hb.1
    have hv := h.t.v_band b.toNatClampNeg (by omega)
    have hbh := h.t.bh b.toNatClampNeg (by omega)
    have hbl := h.t.bl b.toNatClampNeg (by omega)
    obtain ⟨J, hJ⟩ : ∃ J, K = J + 1 := ⟨K - 1, by omega⟩
    obtain ⟨g1, a1⟩ := ratioM (g := g) h.t (by omega : 40 ≤ K) h.s.v_st (f := F 15 b.toNatClampNeg) (by omega)
    obtain ⟨X3, g3, b1, b2, b3⟩ := swrOf' (gx := gx) (P := P) h (by omega : 40 ≤ K) (f := F 15 b.toNatClampNeg) (by omega)
    have hsw := sw_b M F (F 0 1) (F 15 b.toNatClampNeg)
    have c2 : ¬ swV M F (F 0 1) (F 15 b.toNatClampNeg) ≤ 0 := by rw [le32]; show ¬ _ ≤ (0 : Int); omega
    have c1 : ¬ F 16 b.toNatClampNeg < F 15 b.toNatClampNeg := by rw [lt32]; omega
    have e : (F 15 b.toNatClampNeg + 10).toInt = (F 15 b.toNatClampNeg).toInt + 10 := by rw [a32, k32_10] <;> (try rw [k32_10]) <;> omega
    have hM : fX4_worstInBand K b (M, g, F) = fX4_worstInBand_L42 K J b (F 15 b.toNatClampNeg) (swV M F (F 0 1) (F 15 b.toNatClampNeg)) (F 15 b.toNatClampNeg + 10) (M, g1, F) := by
      unfold fX4_worstInBand
      rw [if_neg h.nl]
      refine (b1_e (isInM K _ _ _)).trans ?_
      rw [w64, w64, show decide ((0 : Int64).toInt ≤ b.toInt ∧ b.toInt ≤ (M 14 - 1).toInt) = true from decide_eq_true hb, if_pos rfl]
      rw [ga_t ⟨by omega, by omega⟩]
      simp only [nm]
      rw [ga_t ⟨by omega, by omega⟩]
      conv => lhs; arg 2; rw [hJ]
      rw [fX4_worstInBand_L42, ga_t ⟨by omega, by omega⟩]
      simp only [if_neg c1]
      rw [ga_t (by decide), b2_e (show fX4_ratio K (F 0 (1 : Int32).toNatClampNeg) _ (M, g, F) = _ from a1), if_neg c2]
    have hX : fX0_worstInBand K b (X, gx, XF, G, P) = fX0_worstInBand_L41 K J b (F 15 b.toNatClampNeg) (swV M F (F 0 1) (F 15 b.toNatClampNeg)) (F 15 b.toNatClampNeg + 10) (X3, g3, XF, G, P) := by
      unfold fX0_worstInBand
      refine (b2_e (readyX K _)).trans ?_
      rw [if_pos rfl]
      simp only [eb]
      refine (b1_e (isInX K _ _ _)).trans ?_
      rw [show decide ((0 : Int32).toInt ≤ b.toInt ∧ b.toInt ≤ (M 14 - 1).toInt) = true from decide_eq_true hb, if_pos rfl]
      rw [ga_t ⟨by omega, by omega⟩]
      simp only [nm, hbl]
      conv => lhs; arg 2; rw [hJ]
      rw [fX0_worstInBand_L41, ga_t ⟨by omega, by omega⟩]
      simp only [hbh, if_neg c1]
      rw [b2_e b1, if_neg c2]
    rw [hM, hX]
    exact worst_L h (by omega) b ⟨hb.1, by omega⟩ 28512 J _ _ _ g1 X3 g3 b2 (by omega) (by omega) (by omega) (by omega)
  · refine ⟨-1, g, X, gx, ?_, ?_, fun _ _ => rfl⟩
    · unfold fX4_worstInBand
      rw [if_neg h.nl]
      refine (b1_e (isInM K _ _ _)).trans ?_
      rw [w64, w64]
      rw [show decide ((0 : Int64).toInt ≤ b.toInt ∧ b.toInt ≤ (M 14 - 1).toInt) = false from decide_eq_false hb]
      rfl
    · unfold fX0_worstInBand
      refine (b2_e (readyX K _)).trans ?_
      rw [if_pos rfl]
      simp only [eb]
      refine (b1_e (isInX K _ _ _)).trans ?_
      rw [show decide ((0 : Int32).toInt ≤ b.toInt ∧ b.toInt ≤ (M 14 - 1).toInt) = false from decide_eq_false hb]
      rfl
/-! the band of a frequency -/
def bdV (M : Nat → Int32) (F : Nat → Nat → Int32) (f : Int32) (n : Nat) : Nat → Int32
  | 0 => -2
  | k + 1 => if (F 15 (n - (k + 1))).toInt ≤ f.toInt ∧ f.toInt ≤ (F 16 (n - (k + 1))).toInt then oN (n - (k + 1)) else bdV M F f n k
def bandV (M : Nat → Int32) (F : Nat → Nat → Int32) (f : Int32) : Int32 := bdV M F f (M 14).toNatClampNeg (M 14).toNatClampNeg
theorem bandM_L (h : CR M F X XF G) (f : Int32) (n : Nat) : ∀ (m : Nat) (k : Int32), k.toInt = (M 14).toInt - n → n ≤ (M 14).toNatClampNeg → n + 1 ≤ m → fX4_band_L2 K m f k (M, g, F) = some (bdV M F f (M 14).toNatClampNeg n, (M, g, F)) := by
  have hb := h.t.nB
  have h8 := h.t.v_bds
  induction n with
  | zero =>
    intro m k hk hn hm
    obtain ⟨m, rfl⟩ : ∃ k, m = k + 1 := ⟨m - 1, by omega⟩
    rw [fX4_band_L2, if_pos (by rw [le32]; show (M 14).toInt ≤ _; omega)]
    rfl
  | succ n ih =>
    intro m k hk hn hm
    obtain ⟨m, rfl⟩ : ∃ k, m = k + 1 := ⟨m - 1, by omega⟩
    have ek : k = oN ((M 14).toNatClampNeg - (n + 1)) := oN_of (by omega)
    have ekn : k.toNatClampNeg = (M 14).toNatClampNeg - (n + 1) := by rw [ek, oNn (by omega)]
    rw [fX4_band_L2, if_neg (by rw [le32]; show ¬ (M 14).toInt ≤ _; omega), ga_t ⟨by omega, by omega⟩, ga_t ⟨by omega, by omega⟩, b1_e (isInM K _ _ _)]
    rw [w64, w64, w64, ekn]
    unfold bdV
    by_cases c : (F 15 ((M 14).toNatClampNeg - (n + 1))).toInt ≤ f.toInt ∧ f.toInt ≤ (F 16 ((M 14).toNatClampNeg - (n + 1))).toInt
    · rw [if_pos c, if_pos (decide_eq_true c), ← ek]
    · rw [if_neg c, if_neg (by rw [decide_eq_false c]; decide)]
      exact ih m (k + 1) (by rw [a32, k32_1] <;> (try rw [k32_1]) <;> omega) (by omega) (by omega)
theorem bandM (h : CR M F X XF G) (hK : 40 ≤ K) (f : Int32) : fX4_band K f (M, g, F) = some (bandV M F f, (M, g, F)) := by
  have hb := h.t.nB
  have h8 := h.t.v_bds
  exact bandM_L h f (M 14).toNatClampNeg K 0 (by rw [k32_0]; omega) (Nat.le_refl _) (by omega)
theorem bandX_L (h : CR M F X XF G) (f : Int32) (n : Nat) : ∀ (m : Nat) (k : Int32), k.toInt = (M 14).toInt - n → n ≤ (M 14).toNatClampNeg → n + 1 ≤ m → fX6_bandOf_L2 K m f k (X, gx, XF, G, P) = some (bdV M F f (M 14).toNatClampNeg n) := by
  have hb := h.t.nB
  have h8 := h.t.v_bds
  have e52 := h.t.bds
  induction n with
  | zero =>
    intro m k hk hn hm
    obtain ⟨m, rfl⟩ : ∃ k, m = k + 1 := ⟨m - 1, by omega⟩
    rw [fX6_bandOf_L2, if_pos (by rw [le32]; show (X 52).toInt ≤ _; rw [e52]; omega)]
    rfl
  | succ n ih =>
    intro m k hk hn hm
    obtain ⟨m, rfl⟩ : ∃ k, m = k + 1 := ⟨m - 1, by omega⟩
    have ek : k = oN ((M 14).toNatClampNeg - (n + 1)) := oN_of (by omega)
    have ekn : k.toNatClampNeg = (M 14).toNatClampNeg - (n + 1) := by rw [ek, oNn (by omega)]
    rw [fX6_bandOf_L2, if_neg (by rw [le32]; show ¬ (X 52).toInt ≤ _; rw [e52]; omega), ga_t ⟨by omega, by omega⟩, ga_t ⟨by omega, by omega⟩, b1_e (isInX K _ _ _)]
    simp only [ekn, h.t.bl _ (show (((M 14).toNatClampNeg - (n + 1) : Nat) : Int) < (M 14).toInt by omega), h.t.bh _ (show (((M 14).toNatClampNeg - (n + 1) : Nat) : Int) < (M 14).toInt by omega)]
    unfold bdV
    by_cases c : (F 15 ((M 14).toNatClampNeg - (n + 1))).toInt ≤ f.toInt ∧ f.toInt ≤ (F 16 ((M 14).toNatClampNeg - (n + 1))).toInt
    · rw [if_pos c, if_pos (decide_eq_true c), ← ek]
    · rw [if_neg c, if_neg (by rw [decide_eq_false c]; decide)]
      exact ih m (k + 1) (by rw [a32, k32_1] <;> (try rw [k32_1]) <;> omega) (by omega) (by omega)
theorem bandX (h : CR M F X XF G) (hK : 40 ≤ K) (f : Int32) : fX6_bandOf K f (X, gx, XF, G, P) = some (bandV M F f) := by
  have hb := h.t.nB
  have h8 := h.t.v_bds
  exact bandX_L h f (M 14).toNatClampNeg K 0 (by rw [k32_0]; omega) (Nat.le_refl _) (by omega)
theorem bdV_c (M : Nat → Int32) (F : Nat → Nat → Int32) (f : Int32) (n : Nat) (hn : n ≤ 8) (k : Nat) : bdV M F f n k = -2 ∨ (0 ≤ (bdV M F f n k).toInt ∧ (bdV M F f n k).toInt ≤ 8) := by
  induction k with
  | zero => left; rfl
  | succ k ih =>
    unfold bdV
    split
    · right; rw [oNi (by omega)]; omega
    · exact ih
theorem bandV_c (h : CR M F X XF G) (f : Int32) : bandV M F f = -2 ∨ (0 ≤ (bandV M F f).toInt ∧ (bandV M F f).toInt ≤ 8) := bdV_c M F f _ (by have := h.t.nB; have := h.t.v_bds; omega) _
theorem p_band (h : CR M F X XF G) (hK : 40 ≤ K) (f : Int32) : RO (fX4_bandOf K f (M, g, F)) (fX0_bandOf K f (X, gx, XF, G, P)) M F X XF G P := by
  by_cases hf : 1500 ≤ f.toInt ∧ f.toInt ≤ 30000
  · refine ⟨bandV M F f, g, X, gx, ?_, ?_, fun _ _ => rfl⟩
    · unfold fX4_bandOf
      rw [if_neg h.nl]
      refine (b1_e (isFreqM K f)).trans ?_
      rw [decide_eq_true hf, if_pos rfl]
      exact (b2_e (bandM h hK f)).trans rfl
    · unfold fX0_bandOf
      refine (b2_e (readyX K _)).trans ?_
      rw [if_pos rfl]
      refine (b1_e (isFreqX K f)).trans ?_
      rw [decide_eq_true hf, if_pos rfl]
      exact (b1_e (bandX h hK f)).trans rfl
  · refine ⟨-1, g, X, gx, ?_, ?_, fun _ _ => rfl⟩
    · unfold fX4_bandOf
      rw [if_neg h.nl]
      refine (b1_e (isFreqM K f)).trans ?_
      rw [decide_eq_false hf]
      rfl
    · unfold fX0_bandOf
      refine (b2_e (readyX K _)).trans ?_
      rw [if_pos rfl]
      refine (b1_e (isFreqX K f)).trans ?_
      rw [decide_eq_false hf]
      rfl
/-! what is only read -/
theorem p_freq (h : CR M F X XF G) : RO (fX4_frequency K (M, g, F)) (fX0_frequency K (X, gx, XF, G, P)) M F X XF G P := by
  refine ⟨F 0 0, g, X, gx, ?_, ?_, fun _ _ => rfl⟩
  · unfold fX4_frequency
    rw [if_neg h.nl, ga_t (by decide)]
    rfl
  · unfold fX0_frequency
    rw [b2_e (readyX K _), if_pos rfl]
    simp only [h.s.fq]
theorem p_sett (h : CR M F X XF G) : RO (fX4_settings K (M, g, F)) (fX0_settings K (X, gx, XF, G, P)) M F X XF G P := by
  refine ⟨F 0 1, g, X, gx, ?_, ?_, fun _ _ => rfl⟩
  · unfold fX4_settings
    rw [if_neg h.nl, ga_t (by decide)]
    rfl
  · unfold fX0_settings
    rw [b2_e (readyX K _), if_pos rfl]
    simp only [h.s.st]
theorem p_heat (h : CR M F X XF G) : RO (fX4_heat K (M, g, F)) (fX0_heat K (X, gx, XF, G, P)) M F X XF G P := by
  refine ⟨F 0 2, g, X, gx, ?_, ?_, fun _ _ => rfl⟩
  · unfold fX4_heat
    rw [if_neg h.nl, ga_t (by decide)]
    rfl
  · unfold fX0_heat
    rw [b2_e (readyX K _), if_pos rfl]
    simp only [h.s.ht]
theorem p_rcount (h : CR M F X XF G) : RO (fX4_readingCount K (M, g, F)) (fX0_readingCount K (X, gx, XF, G, P)) M F X XF G P := by
  refine ⟨F 0 4, g, X, gx, ?_, ?_, fun _ _ => rfl⟩
  · unfold fX4_readingCount
    rw [if_neg h.nl, ga_t (by decide)]
    rfl
  · unfold fX0_readingCount
    rw [b2_e (readyX K _), if_pos rfl]
    simp only [h.s.rc]
theorem p_evals (h : CR M F X XF G) (he : X 10 = M 39) : RO (fX4_evaluations K (M, g, F)) (fX0_evaluations K (X, gx, XF, G, P)) M F X XF G P := by
  refine ⟨M 39, g, X, gx, ?_, ?_, fun _ _ => rfl⟩
  · unfold fX4_evaluations
    rw [if_neg h.nl]
  · unfold fX0_evaluations
    rw [b2_e (readyX K _), if_pos rfl]
    simp only [he]
theorem p_reading (h : CR M F X XF G) (b : Int32) : RO (fX4_reading K b (M, g, F)) (fX0_reading K b (X, gx, XF, G, P)) M F X XF G P := by
  have h4 := h.s.v_rc
  have e1 : (F 0 4 - 1).toInt = (F 0 4).toInt - 1 := by rw [s32, k32_1] <;> (try rw [k32_1]) <;> omega
  have e66 := h.s.rc
  have k5 : (5 : Int32).toInt = 5 := rfl
  by_cases hb : 0 ≤ b.toInt ∧ b.toInt ≤ (F 0 4 - 1).toInt
  · have e2 : (F 0 4 - 1 - b).toInt = (F 0 4).toInt - 1 - b.toInt := by rw [s32, e1] <;> (try rw [e1]) <;> omega
    have e3 : (5 + F 0 4).toInt = 5 + (F 0 4).toInt := by rw [a32, k5] <;> (try rw [k5]) <;> omega
    have e4 : (5 + F 0 4 - 1).toInt = 5 + (F 0 4).toInt - 1 := by rw [s32, e3, k32_1] <;> (try rw [e3, k32_1]) <;> omega
    have e5 : (5 + F 0 4 - 1 - b).toInt = 5 + (F 0 4).toInt - 1 - b.toInt := by rw [s32, e4] <;> (try rw [e4]) <;> omega
    have n1 := nn32 (a := F 0 4 - 1 - b) (by omega)
    have n2 := nn32 (a := 5 + F 0 4 - 1 - b) (by omega)
    have e6 : (5 + F 0 4 - 1 - b).toNatClampNeg = 5 + (F 0 4 - 1 - b).toNatClampNeg := by omega
    refine ⟨F 0 (5 + (F 0 4 - 1 - b).toNatClampNeg), g, X, gx, ?_, ?_, fun _ _ => rfl⟩
    · unfold fX4_reading
      rw [if_neg h.nl, ga_t (by decide)]
      refine (b1_e (isInM K _ _ _)).trans ?_
      rw [w64, w64]
      change (if decide ((0 : Int64).toInt ≤ b.toInt ∧ b.toInt ≤ (F 0 4 - 1).toInt) = true then _ else _) = _
      rw [show decide ((0 : Int64).toInt ≤ b.toInt ∧ b.toInt ≤ (F 0 4 - 1).toInt) = true from decide_eq_true hb, if_pos rfl, ga_t (by decide)]
      refine (ga_t (show ix (5 + F 0 4 - 1 - b) 254 from ⟨by omega, by omega⟩)).trans ?_
      show some (F 0 (5 + F 0 4 - 1 - b).toNatClampNeg, _) = _
      rw [e6]
    · unfold fX0_reading
      rw [b2_e (readyX K _), if_pos rfl]
      simp only [e66]
      rw [b1_e (isInX K _ _ _), show decide ((0 : Int32).toInt ≤ b.toInt ∧ b.toInt ≤ (F 0 4 - 1).toInt) = true from decide_eq_true hb, if_pos rfl, ga_t ⟨by omega, by omega⟩, h.s.rd _ (by omega)]
  · refine ⟨-1, g, X, gx, ?_, ?_, fun _ _ => rfl⟩
    · unfold fX4_reading
      rw [if_neg h.nl, ga_t (by decide)]
      refine (b1_e (isInM K _ _ _)).trans ?_
      rw [w64, w64]
      change (if decide ((0 : Int64).toInt ≤ b.toInt ∧ b.toInt ≤ (F 0 4 - 1).toInt) = true then _ else _) = _
      rw [show decide ((0 : Int64).toInt ≤ b.toInt ∧ b.toInt ≤ (F 0 4 - 1).toInt) = false from decide_eq_false hb]
      rfl
    · unfold fX0_reading
      rw [b2_e (readyX K _), if_pos rfl]
      simp only [e66]
      rw [b1_e (isInX K _ _ _), show decide ((0 : Int32).toInt ≤ b.toInt ∧ b.toInt ≤ (F 0 4 - 1).toInt) = false from decide_eq_false hb]
      rfl
end OPS
