/-! plain law: memory, history, remember -/
set_option maxRecDepth 100000
theorem nmr {α β : Type} (e : α) (k : α → β) : nm e k = k e := rfl
def MRl (S : Nat → Int32) (n : Int32) (L : Nat → Option Nat) (rest : va_W) : Prop :=
  n = S 205 ∧ (0 ≤ n.toInt ∧ n.toInt ≤ 16) ∧ (∀ k : Nat, (k : Int) < n.toInt → ∃ q, L k = some q ∧ (q, (.inr (16, [.int (S (206 + k)), .int (S (222 + k)), .int (S (238 + k))]) : va_E)) ∈ rest) ∧ (∀ k : Nat, n.toInt ≤ k → L k = none) ∧ (∀ k : Nat, (k : Int) < n.toInt → (1500 ≤ (S (206 + k)).toInt ∧ (S (206 + k)).toInt ≤ 30000) ∧ 0 ≤ (S (222 + k)).toInt ∧ (S (222 + k)).toInt ≤ 8191)
/-- the cells of a State, its address q -/
abbrev BC (d : Nat → ClassId) (X : Nat → Int32) (XF : Nat → Nat → Int32) (L : Nat → Option Nat) (q q1 q2 q3 q4 : Nat) : va_W := [(q, .inr (8, [.int (X 60), .int (X 61), .int (X 62), .int (X 63), .ref q3, .ref q4, .int (X 66), .ref q1])), (q1, .inr (18, [.int (X 70), .ref q2, .int (X 72)])), (q2, .inl (d 4, 16, .inr (.inr (.inr (.inr L))))), (q3, .inl (d 0, 100, .inl (XF 64))), (q4, .inl (d 3, 100, .inl (XF 65)))]
def SB (d : Nat → ClassId) (S : Nat → Int32) (rest : va_W) (q : Nat) (cs : va_W) : Prop :=
  ∃ (X : Nat → Int32) (XF : Nat → Nat → Int32) (L : Nat → Option Nat) (q1 q2 q3 q4 : Nat), SR S X XF ∧ MRl S (X 72) L rest ∧ cs = BC d X XF L q q1 q2 q3 q4
def HR (d : Nat → ClassId) (past : Nat → Int32) (n : Nat) (h t : Int32) (dq : Nat → Option Nat) (rest : va_W) (bl : List (Nat × va_W)) : Prop :=
  bl.length = n ∧ n ≤ 12 ∧ (0 ≤ h.toInt ∧ h.toInt < 17) ∧ t.toInt = (h.toInt + n) % 17 ∧ ∀ (i : Nat) (b : Nat × va_W), bl[i]? = some b → dq ((h.toInt.toNat + i) % 17) = some b.1 ∧ SB d (fun k => past (254 * i + k)) rest b.1 b.2
theorem SR.cg {S S' X XF} (h : SR S X XF) (e : ∀ k : Nat, k < 205 → S' k = S k) : SR S' X XF := by
  have r := h.v_rc
  have e4 := e 4 (by decide)
  refine SR.mk ?_ ?_ ?_ ?_ ?_ ?_ ?_ ?_ ?_ ?_ ?_ ?_ ?_ h.v_fs
  · rw [e 0 (by decide)]; exact h.fq
  · rw [e 1 (by decide)]; exact h.st
  · rw [e 2 (by decide)]; exact h.ht
  · rw [e 3 (by decide)]; exact h.ch
  · rw [e4]; exact h.rc
  · intro k hk; rw [e4] at hk; rw [e (5 + k) (by omega)]; exact h.rd k hk
  · intro k hk; rw [e4] at hk; rw [e (105 + k) (by omega)]; exact h.fs k hk
  · rw [e 0 (by decide)]; exact h.v_fq
  · rw [e 1 (by decide)]; exact h.v_st
  · rw [e 2 (by decide)]; exact h.v_ht
  · rw [e 3 (by decide)]; exact h.v_ch
  · rw [e4]; exact r
  · intro k hk; rw [e4] at hk; rw [e (5 + k) (by omega)]; exact h.v_rd k hk
theorem MRl.cg {S S' n L rest rest'} (h : MRl S n L rest) (e : ∀ k : Nat, 205 ≤ k → k < 254 → S' k = S k) (hr : ∀ c ∈ rest, c ∈ rest') : MRl S' n L rest' := by
  obtain ⟨h1, h2, h3, h4, h5⟩ := h
  refine ⟨by rw [e 205 (by decide) (by decide)]; exact h1, h2, fun k hk => ?_, h4, fun k hk => ?_⟩
  · obtain ⟨q, a, b⟩ := h3 k hk
    refine ⟨q, a, ?_⟩
    rw [e (206 + k) (by omega) (by omega), e (222 + k) (by omega) (by omega), e (238 + k) (by omega) (by omega)]
    exact hr _ b
  · rw [e (206 + k) (by omega) (by omega), e (222 + k) (by omega) (by omega)]
    exact h5 k hk
theorem SB.cg {d S S' rest rest' q cs} (h : SB d S rest q cs) (e : ∀ k : Nat, k < 254 → S' k = S k) (hr : ∀ c ∈ rest, c ∈ rest') : SB d S' rest' q cs := by
  obtain ⟨X, XF, L, q1, q2, q3, q4, h1, h2, h3⟩ := h
  exact ⟨X, XF, L, q1, q2, q3, q4, h1.cg fun k hk => e k (by omega), h2.cg (fun k _ hk => e k hk) hr, h3⟩
theorem HR.cg {d past past' n h t dq rest rest' bl} (H : HR d past n h t dq rest bl) (e : ∀ k : Nat, k < 254 * n → past' k = past k) (hr : ∀ c ∈ rest, c ∈ rest') : HR d past' n h t dq rest' bl := by
  obtain ⟨h1, h2, h3, h4, h5⟩ := H
  refine ⟨h1, h2, h3, h4, fun i b hb => ?_⟩
  obtain ⟨a, c⟩ := h5 i b hb
  have hi := (List.getElem?_eq_some_iff.mp hb).1
  refine ⟨a, c.cg (fun k hk => ?_) hr⟩
  show past' _ = past _
  exact e _ (by omega)
/-! the deque -/
theorem k32_17 : (17 : Int32).toInt = 17 := rfl
theorem dqm {h n t : Int} (h0 : 0 ≤ h) (h1 : h < 17) (n0 : 0 ≤ n) (n1 : n ≤ 13) (e : t = (h + n) % 17) : (h ≤ t ∧ t - h = n) ∨ (t < h ∧ t - h + 17 = n) := by omega
theorem dq_size (K : Nat) {h t : Int32} {P : Nat → Option Nat} {n : Nat} (hh : 0 ≤ h.toInt ∧ h.toInt < 17) (hn : n ≤ 12) (ht : t.toInt = (h.toInt + n) % 17) : fJ2_size K (h, t, P) = some (oN n) := by
  have hd := dqm hh.1 hh.2 (Int.natCast_nonneg n) (by omega) ht
  have e1 : (t - h).toInt = t.toInt - h.toInt := s32 (by omega) (by omega)
  unfold fJ2_size
  refine (b1_e (v := oN n) ?_).trans rfl
  show fJ2_sub K t h 17 = _
  unfold fJ2_sub
  rw [nmr]
  rcases hd with ⟨a, b⟩ | ⟨a, b⟩
  · rw [if_pos (show (0 : Int32) ≤ t - h by rw [le32, e1, k32_0]; omega)]
    show some (t - h) = _
    rw [oN_of (x := t - h) (n := n) (by omega)]
  · rw [if_neg (show ¬ (0 : Int32) ≤ t - h by rw [le32, e1, k32_0]; omega)]
    show some (t - h + 17) = _
    have e2 : (t - h + 17).toInt = t.toInt - h.toInt + 17 := by rw [a32, e1, k32_17] <;> rw [e1, k32_17] <;> omega
    rw [oN_of (x := t - h + 17) (n := n) (by omega)]
theorem dq_empty (K : Nat) {h t : Int32} {P : Nat → Option Nat} {n : Nat} (hh : 0 ≤ h.toInt ∧ h.toInt < 17) (hn : n ≤ 12) (ht : t.toInt = (h.toInt + n) % 17) : fJ2_isEmpty K (h, t, P) = some (decide (n = 0)) := by
  have hd := dqm hh.1 hh.2 (Int.natCast_nonneg n) (by omega) ht
  unfold fJ2_isEmpty
  show (if h = t then _ else _) = _
  by_cases c : n = 0
  · rw [if_pos (by rw [eq32]; omega), decide_eq_true c]
  · rw [if_neg (by rw [eq32]; omega), decide_eq_false c]
theorem inc17 (K : Nat) {h : Int32} (hh : 0 ≤ h.toInt ∧ h.toInt < 17) : ∃ v, fJ2_inc K h 17 = some v ∧ v.toInt = (h.toInt + 1) % 17 := by
  have e1 : (h + 1).toInt = h.toInt + 1 := by rw [a32, k32_1] <;> rw [k32_1] <;> omega
  unfold fJ2_inc
  by_cases c : h.toInt + 1 < 17
  · rw [if_pos (by rw [lt32, e1, k32_17]; exact c)]
    exact ⟨_, rfl, by rw [e1]; omega⟩
  · rw [if_neg (by rw [lt32, e1, k32_17]; exact c)]
    exact ⟨_, rfl, by rw [k32_0]; omega⟩
theorem dec17 (K : Nat) {t : Int32} (hh : 0 ≤ t.toInt ∧ t.toInt < 17) : ∃ v, fJ2_dec K t 17 = some v ∧ v.toInt = (t.toInt + 16) % 17 := by
  have e1 : (t + -1).toInt = t.toInt + -1 := by rw [a32, k32_m1] <;> rw [k32_m1] <;> omega
  unfold fJ2_dec
  by_cases c : 0 ≤ t.toInt + -1
  · rw [if_pos (by rw [le32, e1, k32_0]; exact c)]
    exact ⟨_, rfl, by rw [e1]; omega⟩
  · rw [if_neg (by rw [le32, e1, k32_0]; exact c)]
    exact ⟨_, rfl, by
      have : (17 - 1 : Int32).toInt = 16 := rfl
      rw [this]; omega⟩
theorem dq_first (K : Nat) {h t : Int32} {P : Nat → Option Nat} {q : Nat} (hh : 0 ≤ h.toInt ∧ h.toInt < 17) (hq : P h.toInt.toNat = some q) : ∃ v, fJ2_removeFirst K (h, t, P) = some (q, v, t, va_up P h.toInt.toNat none) ∧ v.toInt = (h.toInt + 1) % 17 := by
  obtain ⟨v, e1, e2⟩ := inc17 K hh
  refine ⟨v, ?_, e2⟩
  have e0 : fJ2_elementAt K h (h, t, P) = some q := by
    unfold fJ2_elementAt
    refine (ga_t (show ix h 17 from ⟨hh.1, hh.2⟩)).trans ?_
    exact (b1_e (show P h.toNatClampNeg = some q from hq)).trans rfl
  unfold fJ2_removeFirst
  refine (b2_e (v := q) (w := (v, t, va_up P h.toInt.toNat none)) ?_).trans rfl
  unfold fJ2_pollFirst
  refine (b1_e e0).trans ?_
  refine (ga_t (show ix h 17 from ⟨hh.1, hh.2⟩)).trans ?_
  exact (b1_e e1).trans rfl
theorem dq_last (K : Nat) {h t : Int32} {P : Nat → Option Nat} {q : Nat} {n : Nat} (hh : 0 ≤ h.toInt ∧ h.toInt < 17) (hn : n + 1 ≤ 12) (ht : t.toInt = (h.toInt + (n + 1 : Nat)) % 17) (hq : P ((h.toInt.toNat + n) % 17) = some q) : ∃ v, fJ2_removeLast K (h, t, P) = some (q, h, v, va_up P ((h.toInt.toNat + n) % 17) none) ∧ v.toInt = (h.toInt + n) % 17 := by
  have hd := dqm hh.1 hh.2 (Int.natCast_nonneg (n + 1)) (by omega) ht
  have tt : 0 ≤ t.toInt ∧ t.toInt < 17 := by omega
  obtain ⟨v, e1, e2⟩ := dec17 K tt
  have e3 : v.toInt = (h.toInt + n) % 17 := by omega
  have e4 : v.toNatClampNeg = (h.toInt.toNat + n) % 17 := by
    have := nn32 (a := v) (by omega)
    omega
  refine ⟨v, ?_, e3⟩
  have hv : ix v 17 := ⟨by omega, by omega⟩
  have e0 : fJ2_elementAt K v (h, t, P) = some q := by
    unfold fJ2_elementAt
    refine (ga_t hv).trans ?_
    exact (b1_e (show P v.toNatClampNeg = some q by rw [e4]; exact hq)).trans rfl
  unfold fJ2_removeLast
  refine (b2_e (v := q) (w := (h, v, va_up P ((h.toInt.toNat + n) % 17) none)) ?_).trans rfl
  unfold fJ2_pollLast
  refine (b1_e e1).trans ?_
  refine (b1_e e0).trans ?_
  refine (ga_t hv).trans ?_
  rw [e4]
theorem dq_add (K : Nat) {h t : Int32} {P : Nat → Option Nat} {o : Nat} {n : Nat} (hh : 0 ≤ h.toInt ∧ h.toInt < 17) (hn : n ≤ 12) (ht : t.toInt = (h.toInt + n) % 17) : ∃ v, fJ2_addLast K o (h, t, P) = some (h, v, va_up P ((h.toInt.toNat + n) % 17) (some o)) ∧ v.toInt = (h.toInt + (n + 1 : Nat)) % 17 := by
  have hd := dqm hh.1 hh.2 (Int.natCast_nonneg n) (by omega) ht
  have tt : 0 ≤ t.toInt ∧ t.toInt < 17 := by omega
  obtain ⟨v, e1, e2⟩ := inc17 K tt
  have e3 : v.toInt = (h.toInt + (n + 1 : Nat)) % 17 := by omega
  have e4 : t.toNatClampNeg = (h.toInt.toNat + n) % 17 := by
    have := nn32 (a := t) (by omega)
    omega
  refine ⟨v, ?_, e3⟩
  unfold fJ2_addLast
  refine (ga_t (show ix t 17 from ⟨tt.1, tt.2⟩)).trans ?_
  refine (b1_e e1).trans ?_
  have hne : ¬ h = v := by rw [eq32]; omega
  show (if h = v then none else some (h, v, va_up P t.toNatClampNeg (some o))) = _
  rw [if_neg hne, e4]
/-! the reference: remember -/
theorem mup_mup {α : Type} (f : Nat → α) (k : Nat) (x y : α) : mup (mup f k x) k y = mup f k y := by
  funext j
  rw [mup_e, mup_e, mup_e]
  split <;> rfl
theorem mup_s {α : Type} (f : Nat → α) (k : Nat) (x : α) : mup f k x k = x := by rw [mup_e, if_pos rfl]
theorem mup_n {α : Type} (f : Nat → α) {k j : Nat} (x : α) (h : j ≠ k) : mup f k x j = f j := by rw [mup_e, if_neg h]
theorem upd_e (f : Nat → Int32) (k : Nat) (x : Int32) (j : Nat) : upd f k x j = if j = k then x else f j := rfl
theorem k32_254 : (254 : Int32).toInt = 254 := rfl
theorem k32_3048 : (3048 : Int32).toInt = 3048 := rfl
theorem rem54 (K : Nat) (M : Nat → Int32) (g : Nat → Int64) (a : Nat) (ha : a ≤ 11) (hM : M 2 = oN a) (n : Nat) : ∀ (m j : Nat) (F : Nat → Nat → Int32), j + n = 254 → n + 1 ≤ m → ∃ p, fX4_remember_L54 K m (oN j) (M, g, F) = some (mup M 2 (oN (a + 1)), g, mup F 1 p) ∧ ∀ i, p i = if 254 * a + j ≤ i ∧ i < 254 * a + 254 then F 0 (i - 254 * a) else F 1 i := by
  induction n with
  | zero =>
    intro m j F hj hm
    obtain ⟨m, rfl⟩ : ∃ k, m = k + 1 := ⟨m - 1, by omega⟩
    refine ⟨F 1, ?_, fun i => by rw [if_neg (by omega)]⟩
    rw [fX4_remember_L54, if_pos (by rw [le32, k32_254, oNi (by omega)]; omega), mup_id _ _ _ rfl]
    show some (mup M 2 (M 2 + 1), g, F) = _
    rw [hM, oN_s (by omega)]
  | succ n ih =>
    intro m j F hj hm
    obtain ⟨m, rfl⟩ : ∃ k, m = k + 1 := ⟨m - 1, by omega⟩
    have ej : (oN j).toInt = j := oNi (by omega)
    have ea : (oN a).toInt = a := oNi (by omega)
    have e1 : (254 * oN a : Int32).toInt = 254 * a := by rw [m32, k32_254, ea] <;> rw [k32_254, ea] <;> omega
    have e2 : (254 * oN a + oN j : Int32).toInt = 254 * a + j := by rw [a32, e1, ej] <;> rw [e1, ej] <;> omega
    have e3 : (254 * oN a + oN j : Int32).toNatClampNeg = 254 * a + j := by
      have := nn32 (a := 254 * oN a + oN j) (by omega)
      omega
    obtain ⟨p, h1, h2⟩ := ih m (j + 1) (mup F 1 (upd (F 1) (254 * a + j) (F 0 j))) (by omega) (by omega)
    refine ⟨p, ?_, fun i => ?_⟩
    · rw [fX4_remember_L54, if_neg (by rw [le32, k32_254, ej]; omega)]
      refine (ga_t ⟨by omega, by omega⟩).trans ?_
      show ga (ix (254 * M 2 + oN j) 3048) (nm (sF (M, g, F) 1 (upd (F 1) (254 * M 2 + oN j).toNatClampNeg (F 0 (oN j).toNatClampNeg))) fun μ_6 => fX4_remember_L54 K m (oN j + 1) μ_6) = _
      rw [hM]
      refine (ga_t ⟨by omega, by omega⟩).trans ?_
      rw [e3, oNn (by omega), oN_s (by omega), nmr]
      show fX4_remember_L54 K m (oN (j + 1)) (M, g, mup F 1 (upd (F 1) (254 * a + j) (F 0 j))) = _
      rw [h1, mup_mup]
    · rw [h2 i, mup_n _ _ (by decide), mup_s, upd_e]
      by_cases c : i = 254 * a + j
      · rw [if_neg (by omega), if_pos c, if_pos (by omega)]
        congr 1
        omega
      · by_cases c2 : 254 * a + (j + 1) ≤ i ∧ i < 254 * a + 254
        · rw [if_pos c2, if_pos (by omega)]
        · rw [if_neg c2, if_neg c, if_neg (by omega)]
theorem rem13 (K : Nat) (M : Nat → Int32) (g : Nat → Int64) (n : Nat) : ∀ (m j : Nat) (F : Nat → Nat → Int32), j + n = 3048 → 254 ≤ j → n + 1 ≤ m → ∃ p, fX4_remember_L13 K m (oN j) (M, g, F) = fX4_remember_L54 K K 0 (mup M 2 (M 2 - 1), g, mup F 1 p) ∧ ∀ i, p i = if j - 254 ≤ i ∧ i < 2794 then F 1 (i + 254) else F 1 i := by
  induction n with
  | zero =>
    intro m j F hj h4 hm
    obtain ⟨m, rfl⟩ : ∃ k, m = k + 1 := ⟨m - 1, by omega⟩
    refine ⟨F 1, ?_, fun i => by rw [if_neg (by omega)]⟩
    rw [fX4_remember_L13, if_pos (by rw [le32, k32_3048, oNi (by omega)]; omega), mup_id _ _ _ rfl, nmr]
    rfl
  | succ n ih =>
    intro m j F hj h4 hm
    obtain ⟨m, rfl⟩ : ∃ k, m = k + 1 := ⟨m - 1, by omega⟩
    have ej : (oN j).toInt = j := oNi (by omega)
    have e1 : (oN j - 254).toInt = j - 254 := by rw [s32, k32_254, ej] <;> rw [k32_254, ej] <;> omega
    have e3 : (oN j - 254).toNatClampNeg = j - 254 := by
      have := nn32 (a := oN j - 254) (by omega)
      omega
    obtain ⟨p, h1, h2⟩ := ih m (j + 1) (mup F 1 (upd (F 1) (j - 254) (F 1 j))) (by omega) (by omega) (by omega)
    refine ⟨p, ?_, fun i => ?_⟩
    · rw [fX4_remember_L13, if_neg (by rw [le32, k32_3048, ej]; omega)]
      refine (ga_t ⟨by omega, by omega⟩).trans ?_
      refine (ga_t ⟨by omega, by omega⟩).trans ?_
      rw [e3, oNn (by omega), oN_s (by omega), nmr]
      show fX4_remember_L13 K m (oN (j + 1)) (M, g, mup F 1 (upd (F 1) (j - 254) (F 1 j))) = _
      rw [h1, mup_mup]
    · rw [h2 i, mup_s, upd_e, upd_e]
      by_cases c : i = j - 254
      · rw [if_neg (by omega), if_pos c, if_pos (by omega)]
        congr 1
        omega
      · by_cases c2 : j + 1 - 254 ≤ i ∧ i < 2794
        · rw [if_pos c2, if_neg (by omega), if_pos (by omega)]
        · rw [if_neg c2, if_neg c, if_neg (by omega)]
theorem remM {K : Nat} (hK : 4000 ≤ K) (M : Nat → Int32) (g : Nat → Int64) (F : Nat → Nat → Int32) (n : Nat) (hn : n ≤ 12) (hM : M 2 = oN n) : ∃ p, fX4_remember K (M, g, F) = some (mup M 2 (oN (if n = 12 then 12 else n + 1)), g, mup F 1 p) ∧ (∀ k, k < 254 → p (254 * (if n = 12 then 11 else n) + k) = F 0 k) ∧ ∀ i k, i < (if n = 12 then 11 else n) → k < 254 → p (254 * i + k) = F 1 (254 * (if n = 12 then i + 1 else i) + k) := by
  have e2 : (oN n).toInt = n := oNi (by omega)
  have e12 : (12 : Int32).toInt = 12 := rfl
  by_cases c : n = 12
  · subst c
    obtain ⟨p, h1, h2⟩ := rem13 K M g 2794 K 254 F (by omega) (by omega) (by omega)
    obtain ⟨p2, h3, h4⟩ := rem54 K (mup M 2 (oN 11)) g 11 (by omega) (mup_s _ _ _) 254 K 0 (mup F 1 p) (by omega) (by omega)
    refine ⟨p2, ?_, fun k hk => ?_, fun i k hi hk => ?_⟩
    · unfold fX4_remember
      rw [if_pos (show M 2 = 12 by rw [hM]; rfl)]
      have e5 : M 2 - 1 = oN 11 := by rw [hM]; rfl
      rw [e5] at h1
      refine h1.trans (h3.trans ?_)
      rw [mup_mup, mup_mup]
      rfl
    · rw [if_pos rfl, h4, if_pos (by omega), mup_n _ _ (by decide)]
      congr 1
      omega
    · rw [if_pos rfl] at hi ⊢
      rw [h4, if_neg (by omega), mup_s, h2, if_pos (by omega)]
      congr 1
      omega
  · obtain ⟨p2, h3, h4⟩ := rem54 K M g n (by omega) hM 254 K 0 F (by omega) (by omega)
    refine ⟨p2, ?_, fun k hk => ?_, fun i k hi hk => ?_⟩
    · unfold fX4_remember
      rw [if_neg (show ¬ M 2 = 12 by rw [hM, eq32, e2, e12]; omega), if_neg c]
      exact h3
    · rw [if_neg c, h4, if_pos (by omega)]
      congr 1
      omega
    · rw [if_neg c] at hi ⊢
      rw [h4, if_neg (by omega)]
