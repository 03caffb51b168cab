/-! plain law: the network -/
set_option maxRecDepth 100000
/-! the network -/
def crI (s : Int32) : Int32 := (s / 64) - (s / 64) / 64 * 64
def cpI (s : Int32) : Int32 := s - s / 64 * 64
theorem sett (s : Int32) (h : 0 ≤ s.toInt ∧ s.toInt ≤ 8191) : (s / 4096).toInt = s.toInt / 4096 ∧ (crI s).toInt = s.toInt / 64 % 64 ∧ (cpI s).toInt = s.toInt % 64 := by
  have e1 : (64 : Int32).toInt = 64 := rfl
  have e2 : (4096 : Int32).toInt = 4096 := rfl
  have d1 : (s / 64).toInt = s.toInt / 64 := by rw [d32 (by decide), e1, Int.tdiv_eq_ediv_of_nonneg h.1]
  have d2 : (s / 64 / 64).toInt = s.toInt / 64 / 64 := by rw [d32 (by decide), e1, d1, Int.tdiv_eq_ediv_of_nonneg (by omega)]
  refine ⟨by rw [d32 (by decide), e2, Int.tdiv_eq_ediv_of_nonneg h.1], ?_, ?_⟩
  · unfold crI
    have m1 : (s / 64 / 64 * 64).toInt = s.toInt / 64 / 64 * 64 := by rw [m32, e1, d2] <;> rw [d2, e1] <;> omega
    rw [s32, d1, m1] <;> (try rw [d1, m1]) <;> omega
  · unfold cpI
    have m1 : (s / 64 * 64).toInt = s.toInt / 64 * 64 := by rw [m32, e1, d1] <;> rw [d1, e1] <;> omega
    rw [s32, m1] <;> (try rw [m1]) <;> omega
def coV (M : Nat → Int32) (f s : Int32) : Int64 := ((((6283 : Int64) * f.toInt64) * (M 4).toInt64) * (crI s).toInt64) / (1000000 : Int64)
def suV (M : Nat → Int32) (f s : Int32) : Int64 := ((((6283 : Int64) * f.toInt64) * (M 6).toInt64) * (cpI s).toInt64) / (100000 : Int64)
def loV (M : Nat → Int32) (f s : Int32) : Int64 := coV M f s / (M 5).toInt64
def par (r x su : Int64) : Int64 × Int64 :=
  let d := r * r + x * x
  let g := r * 10000000000 / d
  let b := (-x) * 10000000000 / d + su
  let e := g * g + b * b
  if e = 0 then (1000000000, 0) else (cl (g * 10000000000 / e) (-1000000000) 1000000000, cl ((-b) * 10000000000 / e) (-1000000000) 1000000000)
def evL (M : Nat → Int32) (F : Nat → Nat → Int32) (s f : Int32) : Int64 × Int64 := if s / 4096 = 0 then par (itp M F 12 f) (itp M F 13 f) (suV M f s) else (itp M F 12 f, itp M F 13 f)
def evI (M : Nat → Int32) (F : Nat → Nat → Int32) (s f : Int32) : Int64 × Int64 := if s / 4096 = 0 then ((par (itp M F 12 f) (itp M F 13 f) (suV M f s)).1 + loV M f s, (par (itp M F 12 f) (itp M F 13 f) (suV M f s)).2 + coV M f s) else par (itp M F 12 f + loV M f s) (itp M F 13 f + coV M f s) (suV M f s)
section EV
variable {K : Nat} {M : Nat → Int32} {F : Nat → Nat → Int32} {X : Nat → Int32} {XF : Nat → Nat → Int32} {G : Nat → Nat → Int64} {g : Nat → Int64} {P : Nat → Nat → Option Nat}
theorem mul_b {a b : Int} {A B : Int} (h1 : 0 ≤ a) (h2 : a ≤ A) (h3 : 0 ≤ b) (h4 : b ≤ B) : 0 ≤ a * b ∧ a * b ≤ A * B := ⟨Int.mul_nonneg h1 h3, Int.mul_le_mul h2 h4 h3 (by omega)⟩
theorem sq_b {a A : Int} (h1 : -A ≤ a) (h2 : a ≤ A) : 0 ≤ a * a ∧ a * a ≤ A * A := by
  by_cases h : 0 ≤ a
  · exact mul_b h h2 h h2
  · have := mul_b (a := -a) (b := -a) (A := A) (B := A) (by omega) (by omega) (by omega) (by omega)
    rw [Int.neg_mul_neg] at this
    exact this
theorem coV_b (h : TR M F X XF G) {s f : Int32} (hs : 0 ≤ s.toInt ∧ s.toInt ≤ 8191) (hf : 1500 ≤ f.toInt ∧ f.toInt ≤ 30000) : 0 ≤ (coV M f s).toInt ∧ (coV M f s).toInt ≤ 5937435 := by
  have hc := (sett s hs).2.1
  have h4 := h.v_ind
  have e0 : (6283 : Int64).toInt = 6283 := by decide
  have b1 := mul_b (a := 6283) (b := f.toInt) (A := 6283) (B := 30000) (by omega) (by omega) (by omega) (by omega)
  have e1 : ((6283 : Int64) * f.toInt64).toInt = 6283 * f.toInt := by rw [m64, e0, w64] <;> rw [e0, w64] <;> omega
  have b2 := mul_b (b := (M 4).toInt) (B := 500) b1.1 b1.2 (by omega) (by omega)
  have e2 : ((6283 : Int64) * f.toInt64 * (M 4).toInt64).toInt = 6283 * f.toInt * (M 4).toInt := by rw [m64, e1, w64] <;> rw [e1, w64] <;> omega
  have b3 := mul_b (b := (crI s).toInt) (B := 63) b2.1 b2.2 (by omega) (by omega)
  have e3 : ((6283 : Int64) * f.toInt64 * (M 4).toInt64 * (crI s).toInt64).toInt = 6283 * f.toInt * (M 4).toInt * (crI s).toInt := by rw [m64, e2, w64] <;> rw [e2, w64] <;> omega
  unfold coV
  have e4 : (1000000 : Int64).toInt = 1000000 := by decide
  rw [d64 (by decide), e3, e4, Int.tdiv_eq_ediv_of_nonneg b3.1]
  omega
theorem suV_b (h : TR M F X XF G) {s f : Int32} (hs : 0 ≤ s.toInt ∧ s.toInt ≤ 8191) (hf : 1500 ≤ f.toInt ∧ f.toInt ≤ 30000) : 0 ≤ (suV M f s).toInt ∧ (suV M f s).toInt ≤ 5937435 := by
  have hc := (sett s hs).2.2
  have h4 := h.v_cap
  have e0 : (6283 : Int64).toInt = 6283 := by decide
  have b1 := mul_b (a := 6283) (b := f.toInt) (A := 6283) (B := 30000) (by omega) (by omega) (by omega) (by omega)
  have e1 : ((6283 : Int64) * f.toInt64).toInt = 6283 * f.toInt := by rw [m64, e0, w64] <;> rw [e0, w64] <;> omega
  have b2 := mul_b (b := (M 6).toInt) (B := 50) b1.1 b1.2 (by omega) (by omega)
  have e2 : ((6283 : Int64) * f.toInt64 * (M 6).toInt64).toInt = 6283 * f.toInt * (M 6).toInt := by rw [m64, e1, w64] <;> rw [e1, w64] <;> omega
  have b3 := mul_b (b := (cpI s).toInt) (B := 63) b2.1 b2.2 (by omega) (by omega)
  have e3 : ((6283 : Int64) * f.toInt64 * (M 6).toInt64 * (cpI s).toInt64).toInt = 6283 * f.toInt * (M 6).toInt * (cpI s).toInt := by rw [m64, e2, w64] <;> rw [e2, w64] <;> omega
  unfold suV
  have e4 : (100000 : Int64).toInt = 100000 := by decide
  rw [d64 (by decide), e3, e4, Int.tdiv_eq_ediv_of_nonneg b3.1]
  omega
theorem loV_b (h : TR M F X XF G) {s f : Int32} (hs : 0 ≤ s.toInt ∧ s.toInt ≤ 8191) (hf : 1500 ≤ f.toInt ∧ f.toInt ≤ 30000) : 0 ≤ (loV M f s).toInt ∧ (loV M f s).toInt ≤ 5937435 := by
  have h1 := coV_b h hs hf
  have h5 := h.v_qual
  unfold loV
  rw [d64 (by rw [w64]; omega), w64, Int.tdiv_eq_ediv_of_nonneg h1.1]
  refine ⟨Int.ediv_nonneg h1.1 (by omega), ?_⟩
  have := Int.ediv_le_self (b := (M 5).toInt) h1.1
  · omega
end EV
section EV
variable {K : Nat} {M : Nat → Int32} {F : Nat → Nat → Int32} {X : Nat → Int32} {XF : Nat → Nat → Int32} {G : Nat → Nat → Int64} {g : Nat → Int64} {P : Nat → Nat → Option Nat}
theorem two_k (x : Int) : 2000 * x ≤ x * x + 1000000 := by
  have h : 0 ≤ (x - 1000) * (x - 1000) := (sq_b (a := x - 1000) (A := (x - 1000).natAbs) (by omega) (by omega)).1
  rw [Int.sub_mul, Int.mul_sub, Int.mul_sub] at h
  omega
theorem d_b {r x : Int64} (h1 : 1000 ≤ r.toInt) (h2 : r.toInt ≤ 10000000) (h3 : -10000000 ≤ x.toInt) (h4 : x.toInt ≤ 10000000) : (r * r + x * x).toInt = r.toInt * r.toInt + x.toInt * x.toInt ∧ 1000000 ≤ (r * r + x * x).toInt := by
  have b1 := mul_b (a := r.toInt) (b := r.toInt) (A := 10000000) (B := 10000000) (by omega) h2 (by omega) h2
  have b2 := sq_b h3 h4
  have b3 : 1000 * 1000 ≤ r.toInt * r.toInt := Int.mul_le_mul h1 h1 (by omega) (by omega)
  have e1 : (r * r).toInt = r.toInt * r.toInt := m64 (by omega) (by omega)
  have e2 : (x * x).toInt = x.toInt * x.toInt := m64 (by omega) (by omega)
  have e3 : (r * r + x * x).toInt = r.toInt * r.toInt + x.toInt * x.toInt := by rw [a64, e1, e2] <;> rw [e1, e2] <;> omega
  exact ⟨e3, by omega⟩
theorem tdiv_b {a d A : Int} (h1 : -A ≤ a) (h2 : a ≤ A) (hd : 1 ≤ d) : -A ≤ a.tdiv d ∧ a.tdiv d ≤ A := by
  have h3 : (a.tdiv d).natAbs ≤ a.natAbs := by
    rw [Int.natAbs_tdiv]; exact Nat.div_le_self _ _
  omega
end EV
section EV
variable {K : Nat} {M : Nat → Int32} {F : Nat → Nat → Int32} {X : Nat → Int32} {XF : Nat → Nat → Int32} {G : Nat → Nat → Int64} {g : Nat → Int64} {P : Nat → Nat → Option Nat}
theorem par_b0 {d r x : Int} (h1 : 1000 ≤ r) (h2 : r ≤ 10000000) (h3 : -10000000 ≤ x) (h4 : x ≤ 10000000) (hd : d = r * r + x * x) : 0 ≤ (r * 10000000000).tdiv d ∧ (r * 10000000000).tdiv d ≤ 10000000 ∧ -5000000 ≤ (-x * 10000000000).tdiv d ∧ (-x * 10000000000).tdiv d ≤ 5000000 := by
  have b4 : 1000 * r ≤ r * r := Int.mul_le_mul_of_nonneg_right h1 (by omega)
  have b2 := (sq_b h3 h4).1
  have h7 := two_k x
  have h8 := two_k (-x)
  rw [Int.neg_mul_neg] at h8
  generalize r * r = rr at *
  generalize x * x = xx at *
  have hdp : 0 < d := by omega
  refine ⟨Int.tdiv_nonneg (by omega) (by omega), ?_, ?_⟩
  · rw [Int.tdiv_eq_ediv_of_nonneg (by omega)]
    exact Int.ediv_le_of_le_mul hdp (by omega)
  · have h3 : ((-x * 10000000000).tdiv d).natAbs ≤ 5000000 := by
      rw [Int.natAbs_tdiv]
      refine Nat.div_le_of_le_mul ?_
      have hx : (-x * 10000000000).natAbs = x.natAbs * 10000000000 := by
        rw [Int.natAbs_mul, Int.natAbs_neg]; rfl
      rw [hx]
      have : 2000 * x.natAbs ≤ d.natAbs := by omega
      omega
    generalize (-x * 10000000000).tdiv d = q at *
    omega
theorem par_b1 {gg bb : Int64} (p1 : 0 ≤ gg.toInt) (p2 : gg.toInt ≤ 10000000) (hb : -20000000 ≤ bb.toInt ∧ bb.toInt ≤ 20000000) : 0 ≤ (if gg * gg + bb * bb = 0 then ((1000000000 : Int64), (0 : Int64)) else (cl (gg * 10000000000 / (gg * gg + bb * bb)) (-1000000000) 1000000000, cl ((-bb) * 10000000000 / (gg * gg + bb * bb)) (-1000000000) 1000000000)).1.toInt ∧ (if gg * gg + bb * bb = 0 then ((1000000000 : Int64), (0 : Int64)) else (cl (gg * 10000000000 / (gg * gg + bb * bb)) (-1000000000) 1000000000, cl ((-bb) * 10000000000 / (gg * gg + bb * bb)) (-1000000000) 1000000000)).1.toInt ≤ 1000000000 := by
  have eU : (10000000000 : Int64).toInt = 10000000000 := by decide
  have eH : (1000000000 : Int64).toInt = 1000000000 := by decide
  have e1 := mul_b p1 p2 p1 p2
  have e2 := sq_b hb.1 hb.2
  have e3 : (gg * gg).toInt = gg.toInt * gg.toInt := m64 (by omega) (by omega)
  have e4 : (bb * bb).toInt = bb.toInt * bb.toInt := m64 (by omega) (by omega)
  have e5 : (gg * gg + bb * bb).toInt = gg.toInt * gg.toInt + bb.toInt * bb.toInt := by rw [a64, e3, e4] <;> rw [e3, e4] <;> omega
  generalize gg * gg + bb * bb = ee at *
  by_cases he : ee = 0
  · rw [if_pos he]
    exact ⟨by decide, by decide⟩
  · rw [if_neg he]
    have e6 : 0 < ee.toInt := by
      have : ee.toInt ≠ 0 := fun q => he (by rw [eq64]; exact q)
      omega
    have e7 : (gg * 10000000000).toInt = gg.toInt * 10000000000 := by rw [m64, eU] <;> rw [eU] <;> omega
    have e8 : 0 ≤ (gg * 10000000000 / ee).toInt := by
      rw [d64 e6, e7]
      exact Int.tdiv_nonneg (by omega) (by omega)
    have c1 := cl_n (v := gg * 10000000000 / ee) (lo := -1000000000) (hi := 1000000000) (by decide) e8 (by decide)
    have c2 := (cl_b (v := gg * 10000000000 / ee) (lo := -1000000000) (hi := 1000000000) (by decide)).2
    rw [eH] at c2
    exact ⟨c1, c2⟩
/-- what the parallel capacitor gives -/
theorem par_b {r x su : Int64} (h1 : 1000 ≤ r.toInt) (h2 : r.toInt ≤ 10000000) (h3 : -10000000 ≤ x.toInt) (h4 : x.toInt ≤ 10000000) (h5 : 0 ≤ su.toInt) (h6 : su.toInt ≤ 10000000) : 0 ≤ (par r x su).1.toInt ∧ (par r x su).1.toInt ≤ 1000000000 := by
  obtain ⟨hd, hd1⟩ := d_b h1 h2 h3 h4
  obtain ⟨p1, p2, p3, p4⟩ := par_b0 h1 h2 h3 h4 hd
  have eU : (10000000000 : Int64).toInt = 10000000000 := by decide
  have eH : (1000000000 : Int64).toInt = 1000000000 := by decide
  have eg0 : (r * 10000000000).toInt = r.toInt * 10000000000 := by rw [m64, eU] <;> rw [eU] <;> omega
  have en : (-x).toInt = -x.toInt := n64 (by omega)
  have ex0 : (-x * 10000000000).toInt = -x.toInt * 10000000000 := by rw [m64, eU, en] <;> rw [en, eU] <;> omega
  have eg : (r * 10000000000 / (r * r + x * x)).toInt = (r.toInt * 10000000000).tdiv (r * r + x * x).toInt := by rw [d64 (by omega), eg0]
  have eb : (-x * 10000000000 / (r * r + x * x)).toInt = (-x.toInt * 10000000000).tdiv (r * r + x * x).toInt := by rw [d64 (by omega), ex0]
  rw [← eg] at p1 p2
  rw [← eb] at p3 p4
  clear eg eb eg0 en ex0
  have hb : -20000000 ≤ (-x * 10000000000 / (r * r + x * x) + su).toInt ∧ (-x * 10000000000 / (r * r + x * x) + su).toInt ≤ 20000000 := by
    rw [a64] <;> omega
  exact par_b1 p1 p2 hb
end EV
section EV
variable {K : Nat} {M : Nat → Int32} {F : Nat → Nat → Int32} {X : Nat → Int32} {XF : Nat → Nat → Int32} {G : Nat → Nat → Int64} {g : Nat → Int64} {P : Nat → Nat → Option Nat}
theorem nm_i {α β : Type} {e : α} {k : α → β} {z : β} (h : ∀ v, v = e → k v = z) : nm e k = z := h e rfl
theorem par_e {r x su d gg bb ee : Int64} (hd : d = r * r + x * x) (hg : gg = r * 10000000000 / d) (hb : bb = (-x) * 10000000000 / d + su) (he : ee = gg * gg + bb * bb) : par r x su = if ee = 0 then (1000000000, 0) else (cl (gg * 10000000000 / ee) (-1000000000) 1000000000, cl ((-bb) * 10000000000 / ee) (-1000000000) 1000000000) := by
  subst hd hg hb he
  rfl
theorem capM (s f : Int32) (hd : ¬ g 34 * g 34 + g 35 * g 35 = 0) : fX4_addCapacitor K s f (M, g, F) = some (M, mup (mup g 34 (par (g 34) (g 35) (suV M f s)).1) 35 (par (g 34) (g 35) (suV M f s)).2, F) := by
  unfold fX4_addCapacitor
  refine nm_i fun v1 h1 => ?_
  have hd1 : ¬ v1 = 0 := fun q => hd (h1.symm.trans q)
  refine (ga_t hd1).trans ?_
  refine nm_i fun v3 h3 => ?_
  refine (ga_t hd1).trans ?_
  refine (b1_e (show fX4_capacitor K s = some (cpI s) from rfl)).trans ?_
  refine nm_i fun v7 h7 => ?_
  refine nm_i fun v8 h8 => ?_
  have hp := par_e (r := g 34) (x := g 35) (su := suV M f s) h1 h3 h7 h8
  by_cases he : v8 = 0
  · rw [if_pos he] at hp ⊢
    rw [hp]
    rfl
  · rw [if_neg he] at hp ⊢
    rw [hp]
    refine (ga_t he).trans ?_
    refine (b1_e (clM K _ _ _)).trans ?_
    refine nm_i fun v9 h9 => ?_
    subst h9
    refine (ga_t he).trans ?_
    refine (b1_e (clM K _ _ _)).trans ?_
    rfl
theorem coilM (h : TR M F X XF G) (s f : Int32) : fX4_addCoil K s f (M, g, F) = some (M, mup (mup (mup g 38 (loV M f s)) 34 (g 34 + loV M f s)) 35 (g 35 + coV M f s), F) := by
  unfold fX4_addCoil
  refine (b1_e (show fX4_coil K s = some (crI s) from rfl)).trans ?_
  refine nm_i fun v1 h1 => ?_
  have h1 : v1 = coV M f s := h1
  subst h1
  refine (ga_t (show ¬ (M 5).toInt64 = 0 from ne64 (by rw [w64]; have := h.v_qual; omega))).trans ?_
  rfl
theorem parX (r x su : Int64) (hd : ¬ r * r + x * x = 0) : fX1_addInParallel K su (r, x) = some (par r x su) := by
  unfold fX1_addInParallel
  refine (b2_e (show fX1_square K (r, x) = some (r * r + x * x, (r, x)) from rfl)).trans ?_
  refine (ga_t hd).trans ?_
  refine nm_i fun v3 h3 => ?_
  refine (ga_t hd).trans ?_
  refine nm_i fun v7 h7 => ?_
  refine nm_i fun v8 h8 => ?_
  have hp := par_e (r := r) (x := x) (su := su) rfl h3 h7 h8
  by_cases he : v8 = 0
  · rw [if_pos he] at hp ⊢
    rw [hp]
    rfl
  · rw [if_neg he] at hp ⊢
    rw [hp]
    refine (ga_t he).trans ?_
    refine (b1_e (clX K _)).trans ?_
    refine (ga_t he).trans ?_
    refine (b1_e (clX K _)).trans ?_
    rfl
theorem s0 {s : Int32} (hs : 0 ≤ s.toInt ∧ s.toInt ≤ 8191) : s / 4096 = 0 ∨ s / 4096 = 1 := by
  have := (sett s hs).1
  by_cases h : s.toInt / 4096 = 0
  · left; rw [eq32]; show _ = (0 : Int); omega
  · right; rw [eq32]; show _ = (1 : Int); omega
theorem itp_r (h : TR M F X XF G) (f : Int32) : 1000 ≤ (itp M F 12 f).toInt ∧ (itp M F 12 f).toInt ≤ 3000000 := itp_b h 12 f 1000 3000000 (by omega) (by omega) h.v_re
theorem itp_x (h : TR M F X XF G) (f : Int32) : -3000000 ≤ (itp M F 13 f).toInt ∧ (itp M F 13 f).toInt ≤ 3000000 := itp_b h 13 f (-3000000) 3000000 (by omega) (by omega) h.v_xe
theorem d_ne {r x : Int64} (h1 : 1000 ≤ r.toInt) (h2 : r.toInt ≤ 10000000) (h3 : -10000000 ≤ x.toInt) (h4 : x.toInt ≤ 10000000) : ¬ r * r + x * x = 0 := ne64 (by have := (d_b h1 h2 h3 h4).2; omega)
theorem r1_b (h : TR M F X XF G) {s f : Int32} (hs : 0 ≤ s.toInt ∧ s.toInt ≤ 8191) (hf : 1500 ≤ f.toInt ∧ f.toInt ≤ 30000) : 1000 ≤ (itp M F 12 f + loV M f s).toInt ∧ (itp M F 12 f + loV M f s).toInt ≤ 10000000 ∧ -10000000 ≤ (itp M F 13 f + coV M f s).toInt ∧ (itp M F 13 f + coV M f s).toInt ≤ 10000000 := by
  have a := itp_r h f
  have b := itp_x h f
  have c := loV_b h hs hf
  have d := coV_b h hs hf
  rw [a64 (by omega) (by omega), a64 (by omega) (by omega)]
  omega
theorem evL_b (h : TR M F X XF G) {s f : Int32} (hs : 0 ≤ s.toInt ∧ s.toInt ≤ 8191) (hf : 1500 ≤ f.toInt ∧ f.toInt ≤ 30000) : 0 ≤ (evL M F s f).1.toInt ∧ (evL M F s f).1.toInt ≤ 1000000000 := by
  have a := itp_r h f
  have b := itp_x h f
  have c := suV_b h hs hf
  unfold evL
  split
  · exact par_b (by omega) (by omega) (by omega) (by omega) (by omega) (by omega)
  · simp only []; omega
end EV
theorem mup_e {α : Type} (f : Nat → α) (k j : Nat) (x : α) : mup f k x j = if j = k then x else f j := by
  unfold mup
  by_cases h : j = k
  · subst h; rw [Nat.beq_refl, if_pos rfl]; rfl
  · have : Nat.beq j k = false := by
      cases hb : Nat.beq j k with
      | false => rfl
      | true => exact absurd (Nat.eq_of_beq_eq_true hb) h
    rw [this, if_neg h]; rfl
section EV
variable {K : Nat} {M : Nat → Int32} {F : Nat → Nat → Int32} {X : Nat → Int32} {XF : Nat → Nat → Int32} {G : Nat → Nat → Int64} {g : Nat → Int64} {P : Nat → Nat → Option Nat}
theorem workM (h : TR M F X XF G) (hK : 40 ≤ K) {s f : Int32} (hs : 0 ≤ s.toInt ∧ s.toInt ≤ 8191) (hf : 1500 ≤ f.toInt ∧ f.toInt ≤ 30000) : ∃ g', fX4_work K s f (M, g, F) = some (M, g', F) ∧ (g' 34, g' 35) = evI M F s f ∧ (g' 36, g' 37) = evL M F s f ∧ g' 38 = loV M f s := by
  have a := itp_r h f
  have b := itp_x h f
  have c := r1_b h hs hf
  have d0 : ¬ itp M F 12 f * itp M F 12 f + itp M F 13 f * itp M F 13 f = 0 := d_ne a.1 (by omega) (by omega) (by omega)
  have d1 := d_ne c.1 c.2.1 c.2.2.1 c.2.2.2
  have hw : fX4_work K s f (M, g, F) = (if s / 4096 = 0 then
    b1 (fX4_addCapacitor K s f (M, mup (mup g 34 (itp M F 12 f)) 35 (itp M F 13 f), F)) fun μ_18 =>
    nm (sJ μ_18 36 (μ_18.2.1 34)) fun μ_20 =>
    nm (sJ μ_20 37 (μ_20.2.1 35)) fun μ_21 =>
    b1 (fX4_addCoil K s f μ_21) fun μ_22 =>
    some μ_22
  else
    b1 (fX4_addCoil K s f (M, mup (mup (mup (mup g 34 (itp M F 12 f)) 35 (itp M F 13 f)) 36 (itp M F 12 f)) 37 (itp M F 13 f), F)) fun μ_14 =>
    b1 (fX4_addCapacitor K s f μ_14) fun μ_16 =>
    some μ_16) := by
    unfold fX4_work
    refine (b2_e (resM h (by omega) f)).trans ?_
    refine nm_i fun v1 h1 => ?_
    have h1 : v1 = (M, mup g 34 (itp M F 12 f), F) := h1
    subst h1
    refine (b2_e (reaM h (by omega) f)).trans ?_
    refine nm_i fun v2 h2 => ?_
    have h2 : v2 = (M, mup (mup g 34 (itp M F 12 f)) 35 (itp M F 13 f), F) := h2
    subst h2
    refine (b1_e (show fX4_side K s = some (s / 4096) from rfl)).trans ?_
    rfl
  rw [hw]
  clear hw
  generalize hr : itp M F 12 f = r at *
  generalize hx : itp M F 13 f = x at *
  unfold evI evL
  rw [hr, hx]
  rcases s0 hs with h0 | h0
  · rw [if_pos h0, if_pos h0, if_pos h0]
    have e1 := capM (K := K) (M := M) (F := F) (g := mup (mup g 34 r) 35 x) s f (by simpa [mup_e] using d0)
    have e2 : mup (mup g 34 r) 35 x 34 = r := by simp [mup_e]
    have e3 : mup (mup g 34 r) 35 x 35 = x := by simp [mup_e]
    rw [e2, e3] at e1
    generalize par r x (suV M f s) = q at *
    obtain ⟨q1, q2⟩ := q
    simp only [] at e1 ⊢
    rw [b1_e e1]
    obtain ⟨g1, hg1⟩ : ∃ g1, g1 = mup (mup (mup (mup g 34 r) 35 x) 34 q1) 35 q2 := ⟨_, rfl⟩
    rw [← hg1]
    have f1 : g1 34 = q1 := by rw [hg1]; simp [mup_e]
    have f2 : g1 35 = q2 := by rw [hg1]; simp [mup_e]
    clear hg1 e1 e2 e3
    simp only [nm, sJ]
    obtain ⟨g2, hg2⟩ : ∃ g2, g2 = mup (mup g1 36 (g1 34)) 37 (mup g1 36 (g1 34) 35) := ⟨_, rfl⟩
    rw [← hg2]
    have f3 : g2 34 = q1 := by rw [hg2]; simp [mup_e, f1]
    have f4 : g2 35 = q2 := by rw [hg2]; simp [mup_e, f2]
    have f5 : g2 36 = q1 := by rw [hg2]; simp [mup_e, f1]
    have f6 : g2 37 = q2 := by rw [hg2]; simp [mup_e, f2]
    clear hg2
    refine ⟨_, b1_e (coilM h s f), ?_, ?_, ?_⟩
    · simp [mup_e, f3, f4]
    · simp [mup_e, f5, f6]
    · simp [mup_e]
  · have hn : ¬ s / 4096 = 0 := by rw [h0]; decide
    rw [if_neg hn, if_neg hn, if_neg hn]
    obtain ⟨g1, hg1⟩ : ∃ g1, g1 = mup (mup (mup (mup g 34 r) 35 x) 36 r) 37 x := ⟨_, rfl⟩
    rw [← hg1]
    have f1 : g1 34 = r := by rw [hg1]; simp [mup_e]
    have f2 : g1 35 = x := by rw [hg1]; simp [mup_e]
    have f3 : g1 36 = r := by rw [hg1]; simp [mup_e]
    have f4 : g1 37 = x := by rw [hg1]; simp [mup_e]
    clear hg1
    have e1 := coilM (K := K) (g := g1) h s f
    rw [f1, f2] at e1
    rw [b1_e e1]
    clear e1
    obtain ⟨g2, hg2⟩ : ∃ g2, g2 = mup (mup (mup g1 38 (loV M f s)) 34 (r + loV M f s)) 35 (x + coV M f s) := ⟨_, rfl⟩
    rw [← hg2]
    have f5 : g2 34 = r + loV M f s := by rw [hg2]; simp [mup_e]
    have f6 : g2 35 = x + coV M f s := by rw [hg2]; simp [mup_e]
    have f7 : g2 36 = r := by rw [hg2]; simp [mup_e, f3]
    have f8 : g2 37 = x := by rw [hg2]; simp [mup_e, f4]
    have f9 : g2 38 = loV M f s := by rw [hg2]; simp [mup_e]
    clear hg2
    have e2 := capM (K := K) (M := M) (F := F) (g := g2) s f (by rw [f5, f6]; exact d1)
    rw [f5, f6] at e2
    generalize par (r + loV M f s) (x + coV M f s) (suV M f s) = q at e2 ⊢
    obtain ⟨q1, q2⟩ := q
    refine ⟨_, b1_e e2, ?_, ?_, ?_⟩
    · simp [mup_e, f5, f6]
    · simp [mup_e, f7, f8]
    · simp [mup_e, f9]
theorem layX (h : TR M F X XF G) (hK : 40 ≤ K) {s f : Int32} (hs : 0 ≤ s.toInt ∧ s.toInt ≤ 8191) (hf : 1500 ≤ f.toInt ∧ f.toInt ≤ 30000) : ∃ g', fX3_lay K s f (X, g, XF, G, P) = some (mup X 20 (s / 4096), g', XF, G, P) ∧ (g' 32, g' 33) = evI M F s f ∧ (g' 30, g' 31) = evL M F s f ∧ g' 22 = loV M f s := by
  have a := itp_r h f
  have b := itp_x h f
  have c := r1_b h hs hf
  have d0 : ¬ itp M F 12 f * itp M F 12 f + itp M F 13 f * itp M F 13 f = 0 := d_ne a.1 (by omega) (by omega) (by omega)
  have d1 := d_ne c.1 c.2.1 c.2.2.1 c.2.2.2
  have h20 : TR M F (mup X 20 (s / 4096)) XF G := ⟨h.ind, h.qual, h.cap, h.pow, h.rat, h.gsw, h.pts, h.bds, h.fr, h.re, h.xe, h.bl, h.bh, h.v_ind, h.v_qual, h.v_cap, h.v_pow, h.v_rat, h.v_gsw, h.v_pts, h.v_bds, h.v_fr, h.v_asc, h.v_re, h.v_xe, h.v_band⟩
  have hw : fX3_lay K s f (X, g, XF, G, P) = (if s / 4096 = 0 then
    b1 (fX0_capacitorFirst K (mup X 20 (s / 4096), mup (mup (mup (mup (mup g 21 (coV M f s)) 23 (suV M f s)) 22 (loV M f s)) 32 (itp M F 12 f)) 33 (itp M F 13 f), XF, G, P)) fun ξ_15 =>
    some ξ_15
  else
    ga (s / 4096 = 1) <|
    b1 (fX0_coilFirst K (mup X 20 (s / 4096), mup (mup (mup (mup (mup g 21 (coV M f s)) 23 (suV M f s)) 22 (loV M f s)) 32 (itp M F 12 f)) 33 (itp M F 13 f), XF, G, P)) fun ξ_17 =>
    some ξ_17) := by
    unfold fX3_lay
    refine nm_i fun v1 h1 => ?_
    have h1 : v1 = (mup X 20 (s / 4096), g, XF, G, P) := h1
    subst h1
    refine nm_i fun v2 h2 => ?_
    have h2 : v2 = (mup X 20 (s / 4096), mup g 21 (coV M f s), XF, G, P) := by
      rw [h2]
      have e : ((mup X 20 (s / 4096), g, XF, G, P) : XS).1 40 = M 4 := h.ind
      rw [e]; rfl
    subst h2
    refine nm_i fun v3 h3 => ?_
    have h3 : v3 = (mup X 20 (s / 4096), mup (mup g 21 (coV M f s)) 23 (suV M f s), XF, G, P) := by
      rw [h3]
      have e : ((mup X 20 (s / 4096), mup g 21 (coV M f s), XF, G, P) : XS).1 42 = M 6 := h.cap
      rw [e]; rfl
    subst h3
    have e41 : ((mup X 20 (s / 4096), mup (mup g 21 (coV M f s)) 23 (suV M f s), XF, G, P) : XS).1 41 = M 5 := h.qual
    refine (ga_t (show ¬ (((mup X 20 (s / 4096), mup (mup g 21 (coV M f s)) 23 (suV M f s), XF, G, P) : XS).1 41).toInt64 = 0 from by rw [e41]; exact ne64 (by rw [w64]; have := h.v_qual; omega))).trans ?_
    refine nm_i fun v4 h4 => ?_
    have h4 : v4 = (mup X 20 (s / 4096), mup (mup (mup g 21 (coV M f s)) 23 (suV M f s)) 22 (loV M f s), XF, G, P) := by
      rw [h4, e41]; rfl
    subst h4
    refine (b1_e (resX h20 (by omega) f)).trans ?_
    refine (b1_e (reaX h20 (by omega) f)).trans ?_
    refine (b1_e (show fX1_set K (itp M F 12 f) (itp M F 13 f) _ = some (itp M F 12 f, itp M F 13 f) from rfl)).trans ?_
    refine nm_i fun v5 h5 => ?_
    have h5 : v5 = (mup X 20 (s / 4096), mup (mup (mup (mup (mup g 21 (coV M f s)) 23 (suV M f s)) 22 (loV M f s)) 32 (itp M F 12 f)) 33 (itp M F 13 f), XF, G, P) := h5
    subst h5
    refine (ga_t (show ix (s / 4096) 2 from by rcases s0 hs with h0 | h0 <;> rw [h0] <;> decide)).trans ?_
    rfl
  rw [hw]
  clear hw
  generalize hr : itp M F 12 f = r at *
  generalize hx : itp M F 13 f = x at *
  unfold evI evL
  rw [hr, hx]
  obtain ⟨g1, hg1⟩ : ∃ g1, g1 = mup (mup (mup (mup (mup g 21 (coV M f s)) 23 (suV M f s)) 22 (loV M f s)) 32 r) 33 x := ⟨_, rfl⟩
  rw [← hg1]
  have f1 : g1 32 = r := by rw [hg1]; simp [mup_e]
  have f2 : g1 33 = x := by rw [hg1]; simp [mup_e]
  have f3 : g1 21 = coV M f s := by rw [hg1]; simp [mup_e]
  have f4 : g1 22 = loV M f s := by rw [hg1]; simp [mup_e]
  have f5 : g1 23 = suV M f s := by rw [hg1]; simp [mup_e]
  clear hg1
  rcases s0 hs with h0 | h0
  · rw [if_pos h0, if_pos h0, if_pos h0]
    have e1 : fX0_capacitorFirst K (mup X 20 (s / 4096), g1, XF, G, P) = some (mup X 20 (s / 4096), mup (mup (mup (mup (mup (mup g1 32 (par r x (suV M f s)).1) 33 (par r x (suV M f s)).2) 30 (par r x (suV M f s)).1) 31 (par r x (suV M f s)).2) 32 ((par r x (suV M f s)).1 + loV M f s)) 33 ((par r x (suV M f s)).2 + coV M f s), XF, G, P) := by
      unfold fX0_capacitorFirst
      simp only [f1, f2, f5]
      rw [b1_e (parX r x _ d0)]
      generalize par r x (suV M f s) = q
      obtain ⟨q1, q2⟩ := q
      simp only [nm, xJ, fX1_set, fX1_addInSeries, b1, Option.bind_some, mup_e, f3, f4]
      simp
    rw [b1_e e1]
    generalize par r x (suV M f s) = q
    obtain ⟨q1, q2⟩ := q
    refine ⟨_, rfl, ?_, ?_, ?_⟩
    · simp [mup_e]
    · simp [mup_e]
    · simp [mup_e, f4]
  · have hn : ¬ s / 4096 = 0 := by rw [h0]; decide
    rw [if_neg hn, if_neg hn, if_neg hn, ga_t h0]
    have e1 : fX0_coilFirst K (mup X 20 (s / 4096), g1, XF, G, P) = some (mup X 20 (s / 4096), mup (mup (mup (mup (mup (mup g1 30 r) 31 x) 32 (r + loV M f s)) 33 (x + coV M f s)) 32 (par (r + loV M f s) (x + coV M f s) (suV M f s)).1) 33 (par (r + loV M f s) (x + coV M f s) (suV M f s)).2, XF, G, P) := by
      unfold fX0_coilFirst
      simp only [nm, xJ, fX1_set, fX1_addInSeries, b1, Option.bind_some, mup_e, f1, f2, f3, f4, f5]
      simp only [Nat.reduceEqDiff, if_true, if_false, f1, f2, f3, f4, f5]
      rw [parX _ _ _ d1]
      simp
    rw [b1_e e1]
    generalize par (r + loV M f s) (x + coV M f s) (suV M f s) = q
    obtain ⟨q1, q2⟩ := q
    refine ⟨_, rfl, ?_, ?_, ?_⟩
    · simp [mup_e]
    · simp [mup_e]
    · simp [mup_e, f4]
end EV
theorem mup_id {α : Type} (f : Nat → α) (k : Nat) (x : α) (h : f k = x) : mup f k x = f := by
  funext j
  rw [mup_e]
  split
  · rename_i e; subst e; exact h.symm
  · rfl
def ratP (n m : Int64) : Int32 := if n < m then (cl ((100 * (m + n)) / (m - n)) 0 99999).toInt32 else 99999
def swrP (q : Int64 × Int64) : Int32 := ratP (rt ((q.1 - 50000) * (q.1 - 50000) + q.2 * q.2)) (rt ((q.1 + 50000) * (q.1 + 50000) + q.2 * q.2))
def swV (M : Nat → Int32) (F : Nat → Nat → Int32) (s f : Int32) : Int32 := swrP (evI M F s f)
def effP (lr lo : Int64) : Int32 := if lr + lo = 0 then 0 else ((1000 * lr) / (lr + lo)).toInt32
def efV (M : Nat → Int32) (F : Nat → Nat → Int32) (s f : Int32) : Int32 := effP (evL M F s f).1 (loV M f s)
def volP (q : Int64 × Int64) (p : Int64) : Int32 := if q.1 = 0 then 99999 else (cl (rt ((p * (if (q.1 * q.1 + q.2 * q.2) / q.1 ≤ 1000000000000 then (q.1 * q.1 + q.2 * q.2) / q.1 else 1000000000000)) / 1000)) 0 99999).toInt32
def voV (M : Nat → Int32) (F : Nat → Nat → Int32) (s f w : Int32) : Int32 := if s / 4096 = 0 then volP (evL M F s f) ((w.toInt64 * (efV M F s f).toInt64) / 1000) else volP (evI M F s f) w.toInt64
theorem cl_min {v hi : Int64} (h : 0 ≤ v.toInt) (h2 : 0 ≤ hi.toInt) : (if v < hi then v else hi) = cl v 0 hi := by
  unfold cl
  have e0 : (0 : Int64).toInt = 0 := rfl
  by_cases h1 : v < hi
  · rw [if_pos h1, if_pos (by rw [le64]; omega), if_pos (by rw [le64]; rw [lt64] at h1; omega)]
  · rw [if_neg h1, if_pos (by rw [le64]; omega)]
    rw [lt64] at h1
    by_cases h3 : v ≤ hi
    · rw [if_pos h3]; rw [le64] at h3; rw [eq64]; omega
    · rw [if_neg h3]
theorem ratP_q {n m : Int64} (hn : 0 ≤ n.toInt ∧ n.toInt ≤ 3037000499) (hm : 0 ≤ m.toInt ∧ m.toInt ≤ 3037000499) (h : n < m) : 0 ≤ ((100 * (m + n)) / (m - n)).toInt ∧ ¬ m - n = 0 := by
  rw [lt64] at h
  have e1 : (m + n).toInt = m.toInt + n.toInt := a64 (by omega) (by omega)
  have e2 : (m - n).toInt = m.toInt - n.toInt := s64 (by omega) (by omega)
  have e0 : (100 : Int64).toInt = 100 := by decide
  have e3 : (100 * (m + n)).toInt = 100 * (m.toInt + n.toInt) := by rw [m64, e0, e1] <;> rw [e0, e1] <;> omega
  refine ⟨?_, ne64 (by omega)⟩
  rw [d64 (by omega), e3, e2]
  exact Int.tdiv_nonneg (by omega) (by omega)
section EV
variable {K : Nat} {M : Nat → Int32} {F : Nat → Nat → Int32} {X : Nat → Int32} {XF : Nat → Nat → Int32} {G : Nat → Nat → Int64} {g : Nat → Int64} {P : Nat → Nat → Option Nat}
theorem swr1X (hK : 40 ≤ K) (q : Int64 × Int64) : fX1_swr K q = some (swrP q, q) := by
  unfold fX1_swr swrP
  refine (b1_e (rtX (by omega) _)).trans ?_
  refine (b1_e (rtX (by omega) _)).trans ?_
  have b1 := rt_all ((q.1 - 50000) * (q.1 - 50000) + q.2 * q.2)
  have b2 := rt_all ((q.1 + 50000) * (q.1 + 50000) + q.2 * q.2)
  generalize rt ((q.1 - 50000) * (q.1 - 50000) + q.2 * q.2) = n at b1 ⊢
  generalize rt ((q.1 + 50000) * (q.1 + 50000) + q.2 * q.2) = m at b2 ⊢
  unfold ratP
  by_cases h : n < m
  · have hq := ratP_q ⟨b1.1, b1.2.1⟩ ⟨b2.1, b2.2.1⟩ h
    rw [if_pos h, if_pos h]
    refine (ga_t hq.2).trans ?_
    refine nm_i fun v hv => ?_
    rw [cl_min hq.1 (by decide)] at hv
    rw [hv]
  · rw [if_neg h, if_neg h]
theorem swrX (hK : 40 ≤ K) : fX3_swr K (X, g, XF, G, P) = some (swrP (g 32, g 33), (X, g, XF, G, P)) := by
  unfold fX3_swr
  refine (b2_e (swr1X hK _)).trans ?_
  refine nm_i fun v hv => ?_
  rw [hv]
  show some (_, (X, mup (mup g 32 (g 32)) 33 (g 33), XF, G, P)) = _
  rw [mup_id g 32 _ rfl, mup_id g 33 _ rfl]
theorem ratioM (h : TR M F X XF G) (hK : 40 ≤ K) {s f : Int32} (hs : 0 ≤ s.toInt ∧ s.toInt ≤ 8191) (hf : 1500 ≤ f.toInt ∧ f.toInt ≤ 30000) : ∃ g', fX4_ratio K s f (M, g, F) = some (swV M F s f, (M, g', F)) := by
  obtain ⟨g', hw, h1, -⟩ := workM (g := g) h hK hs hf
  refine ⟨g', ?_⟩
  unfold fX4_ratio swV
  refine (b1_e hw).trans ?_
  rw [← h1]
  refine (b1_e (rtM (by omega) _)).trans ?_
  refine (b1_e (rtM (by omega) _)).trans ?_
  unfold swrP ratP
  simp only []
  have b1 := rt_all ((g' 34 - 50000) * (g' 34 - 50000) + g' 35 * g' 35)
  have b2 := rt_all ((g' 34 + 50000) * (g' 34 + 50000) + g' 35 * g' 35)
  generalize rt ((g' 34 - 50000) * (g' 34 - 50000) + g' 35 * g' 35) = n at b1 ⊢
  generalize rt ((g' 34 + 50000) * (g' 34 + 50000) + g' 35 * g' 35) = m at b2 ⊢
  by_cases h : n < m
  · have hq := ratP_q ⟨b1.1, b1.2.1⟩ ⟨b2.1, b2.2.1⟩ h
    rw [if_pos h, if_pos h]
    refine (ga_t hq.2).trans ?_
    refine (b1_e (clM K _ _ _)).trans ?_
    rfl
  · rw [if_neg h, if_neg h]
theorem effX : fX3_efficiency K (X, g, XF, G, P) = some (effP (g 30) (g 22), (X, g, XF, G, P)) := by
  unfold fX3_efficiency effP
  refine nm_i fun v hv => ?_
  have hv : v = g 30 + g 22 := hv
  rw [← hv]
  by_cases h : v = 0
  · rw [if_pos h, if_pos h]
  · rw [if_neg h, if_neg h]
    exact ga_t h
theorem effM (h : TR M F X XF G) (hK : 40 ≤ K) {s : Int32} (hs : 0 ≤ s.toInt ∧ s.toInt ≤ 8191) (hf : 1500 ≤ (F 0 0).toInt ∧ (F 0 0).toInt ≤ 30000) : ∃ g', fX4_efficiencyOf K s (M, g, F) = some (efV M F s (F 0 0), (M, g', F)) ∧ (g' 34, g' 35) = evI M F s (F 0 0) ∧ (g' 36, g' 37) = evL M F s (F 0 0) ∧ g' 38 = loV M (F 0 0) s := by
  obtain ⟨g', hw, h1, h2, h3⟩ := workM (g := g) h hK hs hf
  refine ⟨g', ?_, h1, h2, h3⟩
  unfold fX4_efficiencyOf efV effP
  refine (ga_t (by decide)).trans ?_
  refine (b1_e hw).trans ?_
  refine nm_i fun v hv => ?_
  have hv : v = g' 36 + g' 38 := hv
  rw [← h2, ← h3]
  simp only []
  rw [← hv]
  by_cases h : v = 0
  · rw [if_pos h, if_pos h]
  · rw [if_neg h, if_neg h]
    exact ga_t h
theorem eff_b {lr lo : Int64} (h1 : 0 ≤ lr.toInt) (h2 : lr.toInt ≤ 1000000000) (h3 : 0 ≤ lo.toInt) (h4 : lo.toInt ≤ 10000000) : 0 ≤ (effP lr lo).toInt ∧ (effP lr lo).toInt ≤ 1000 := by
  unfold effP
  have e1 : (lr + lo).toInt = lr.toInt + lo.toInt := a64 (by omega) (by omega)
  by_cases h : lr + lo = 0
  · rw [if_pos h]; decide
  · rw [if_neg h]
    have hn : 0 < (lr + lo).toInt := by
      have : (lr + lo).toInt ≠ 0 := fun q => h (by rw [eq64]; exact q)
      omega
    have e0 : (1000 : Int64).toInt = 1000 := by decide
    have e2 : (1000 * lr).toInt = 1000 * lr.toInt := by rw [m64, e0] <;> rw [e0] <;> omega
    have e3 : ((1000 * lr) / (lr + lo)).toInt = (1000 * lr.toInt) / (lr.toInt + lo.toInt) := by
      rw [d64 hn, e2, e1, Int.tdiv_eq_ediv_of_nonneg (by omega)]
    have e4 : 0 ≤ (1000 * lr.toInt) / (lr.toInt + lo.toInt) := Int.ediv_nonneg (by omega) (by omega)
    have e5 : (1000 * lr.toInt) / (lr.toInt + lo.toInt) ≤ 1000 := Int.ediv_le_of_le_mul (by omega) (by omega)
    have e6 : ((1000 * lr) / (lr + lo)).toInt32.toInt = ((1000 * lr) / (lr + lo)).toInt := by
      rw [Int64.toInt_toInt32]
      exact Int.bmod_eq_of_le (by omega) (by omega)
    rw [e6, e3]
    exact ⟨e4, e5⟩
theorem efV_b (h : TR M F X XF G) {s f : Int32} (hs : 0 ≤ s.toInt ∧ s.toInt ≤ 8191) (hf : 1500 ≤ f.toInt ∧ f.toInt ≤ 30000) : 0 ≤ (efV M F s f).toInt ∧ (efV M F s f).toInt ≤ 1000 := by
  have a := evL_b h hs hf
  have b := loV_b h hs hf
  exact eff_b a.1 a.2 b.1 (by omega)
theorem vol1X (hK : 40 ≤ K) (q : Int64 × Int64) (w : Int32) : fX1_voltageWith K w q = some (volP q w.toInt64, q) := by
  unfold fX1_voltageWith volP
  by_cases h : q.1 = 0
  · rw [if_pos h, if_pos h]
  · rw [if_neg h, if_neg h]
    refine (b2_e (show fX1_square K q = some (q.1 * q.1 + q.2 * q.2, q) from rfl)).trans ?_
    refine (ga_t h).trans ?_
    refine nm_i fun v hv => ?_
    generalize (q.1 * q.1 + q.2 * q.2) / q.1 = t at hv ⊢
    have hv : v = if t ≤ 1000000000000 then t else 1000000000000 := by
      rw [hv]
      by_cases c : t < 1000000000000
      · rw [if_pos c, if_pos (by rw [le64]; rw [lt64] at c; omega)]
      · rw [if_neg c]
        by_cases c2 : t ≤ 1000000000000
        · rw [if_pos c2]; rw [le64] at c2; rw [lt64] at c; rw [eq64]; omega
        · rw [if_neg c2]
    rw [← hv]
    refine (b1_e (rtX (by omega) _)).trans ?_
    have b := rt_all ((w.toInt64 * v) / 1000)
    generalize rt ((w.toInt64 * v) / 1000) = n at b ⊢
    refine nm_i fun u hu => ?_
    rw [cl_min b.1 (by decide)] at hu
    rw [hu]
theorem vol118 (hK : 40 ≤ K) (p t : Int64) (μ : MS) : fX4_voltageOf_L118 K p t μ = some ((cl (rt ((p * t) / 1000)) 0 99999).toInt32, μ) := by
  unfold fX4_voltageOf_L118
  refine (b1_e (rtM (by omega) _)).trans ?_
  refine (b1_e (clM K _ _ _)).trans ?_
  rfl
theorem vol75 (hK : 40 ≤ K) (p : Int64) (q : Int64 × Int64) (μ : MS) : fX4_voltageOf_L75 K q.2 p q.1 μ = some (volP q p, μ) := by
  unfold fX4_voltageOf_L75 volP
  by_cases h : q.1 = 0
  · rw [if_pos h, if_pos h]
  · rw [if_neg h, if_neg h]
    refine (ga_t h).trans ?_
    refine nm_i fun v hv => ?_
    rw [← hv]
    by_cases c : v ≤ 1000000000000
    · rw [if_pos c, if_pos c, vol118 hK]
    · rw [if_neg c, if_neg c, vol118 hK]
theorem volM (h : TR M F X XF G) (hK : 40 ≤ K) {s : Int32} (w : Int32) (hs : 0 ≤ s.toInt ∧ s.toInt ≤ 8191) (hf : 1500 ≤ (F 0 0).toInt ∧ (F 0 0).toInt ≤ 30000) : ∃ g', fX4_voltageOf K s w (M, g, F) = some (voV M F s (F 0 0) w, (M, g', F)) := by
  obtain ⟨g', he, h1, h2, h3⟩ := effM (g := g) h hK hs hf
  refine ⟨g', ?_⟩
  unfold fX4_voltageOf voV
  refine (b2_e he).trans ?_
  refine (b1_e (show fX4_side K s = some (s / 4096) from rfl)).trans ?_
  rw [← h1, ← h2]
  by_cases c : s / 4096 = 0
  · rw [if_pos c, if_pos c]
    exact vol75 hK _ (g' 36, g' 37) _
  · rw [if_neg c, if_neg c]
    exact vol75 hK _ (g' 34, g' 35) _
/-- power times efficiency, as an int and as a long -/
theorem powE {w e : Int32} (hw : 0 ≤ w.toInt ∧ w.toInt ≤ 1500) (he : 0 ≤ e.toInt ∧ e.toInt ≤ 1000) : ((w * e) / 1000).toInt64 = (w.toInt64 * e.toInt64) / 1000 := by
  have b := mul_b hw.1 hw.2 he.1 he.2
  have e1 : (w * e).toInt = w.toInt * e.toInt := m32 (by omega) (by omega)
  have e2 : (w.toInt64 * e.toInt64).toInt = w.toInt * e.toInt := by rw [m64, w64, w64] <;> rw [w64, w64] <;> omega
  have k1 : (1000 : Int32).toInt = 1000 := rfl
  have k2 : (1000 : Int64).toInt = 1000 := by decide
  rw [eq64, w64, d32 (by decide), d64 (by decide), e1, e2, k1, k2]
theorem volX (hK : 40 ≤ K) {s f w : Int32} (h20 : X 20 = s / 4096) (h1 : (g 32, g 33) = evI M F s f) (h2 : (g 30, g 31) = evL M F s f) (h3 : g 22 = loV M f s) (hw : 0 ≤ w.toInt ∧ w.toInt ≤ 1500) (he : 0 ≤ (efV M F s f).toInt ∧ (efV M F s f).toInt ≤ 1000) : fX3_voltageWith K w (X, g, XF, G, P) = some (voV M F s f w, (X, g, XF, G, P)) := by
  unfold fX3_voltageWith voV
  simp only [h20]
  have hef : efV M F s f = effP (g 30) (g 22) := by unfold efV; rw [← h2, h3]
  rw [← h1, ← h2]
  by_cases c : s / 4096 = 0
  · rw [if_pos c, if_pos c]
    refine (b2_e effX).trans ?_
    refine (b2_e (vol1X hK _ _)).trans ?_
    refine nm_i fun v hv => ?_
    rw [hv]
    rw [hef] at he ⊢
    rw [powE hw he]
    show some (_, (X, mup (mup g 30 (g 30)) 31 (g 31), XF, G, P)) = _
    rw [mup_id g 30 _ rfl, mup_id g 31 _ rfl]
  · rw [if_neg c, if_neg c]
    refine (b2_e (vol1X hK _ _)).trans ?_
    refine nm_i fun v hv => ?_
    rw [hv]
    show some (_, (X, mup (mup g 32 (g 32)) 33 (g 33), XF, G, P)) = _
    rw [mup_id g 32 _ rfl, mup_id g 33 _ rfl]
end EV
