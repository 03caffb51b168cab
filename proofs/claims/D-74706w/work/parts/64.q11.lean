/-! plain law: what the memory tells -/
set_option maxRecDepth 100000
abbrev NDt (tl : va_W) : Prop := (tl.map (fun c => c.1)).Nodup
theorem nd_eq {tl : va_W} (h : NDt tl) {q : Nat} {a b : va_E} (ha : (q, a) ∈ tl) (hb : (q, b) ∈ tl) : a = b := by
  induction tl with
  | nil => cases ha
  | cons c t ih =>
    have h0 : (c.1 :: t.map (fun c => c.1)).Nodup := h
    rw [List.nodup_cons] at h0
    rcases List.mem_cons.mp ha with h1 | h1
    · rcases List.mem_cons.mp hb with h2 | h2
      · have := h1.trans h2.symm
        exact congrArg (fun p => p.2) this
      · exfalso
        refine h0.1 ?_
        rw [show c.1 = q by rw [← h1]]
        exact List.mem_map_of_mem (f := fun c : Nat × va_E => c.1) h2
    · rcases List.mem_cons.mp hb with h2 | h2
      · exfalso
        refine h0.1 ?_
        rw [show c.1 = q by rw [← h2]]
        exact List.mem_map_of_mem (f := fun c : Nat × va_E => c.1) h1
      · exact ih h0.2 h1 h2
theorem entOf_of {tl : va_W} (h : NDt tl) {q : Nat} {a b c : Int32} (he : (q, (.inr (16, [.int a, .int b, .int c]) : va_E)) ∈ tl) : entOf tl q = some (a, b, c) := by
  have hx : ∃ t : Int32 × Int32 × Int32, (q, (.inr (16, [.int t.1, .int t.2.1, .int t.2.2]) : va_E)) ∈ tl := ⟨(a, b, c), he⟩
  obtain ⟨t, ht⟩ : ∃ t, entOf tl q = some t := by
    unfold entOf
    exact ⟨_, dif_pos hx⟩
  have hm := entOf_mem ht
  have e := nd_eq h hm he
  obtain ⟨t1, t2, t3⟩ := t
  injection e with e
  injection e with e1 e
  injection e with e1 e
  injection e with e2 e
  injection e with e3 e
  injection e1 with e1
  injection e2 with e2
  injection e3 with e3
  have e1 : t1 = a := e1
  have e2 : t2 = b := e2
  have e3 : t3 = c := e3
  rw [ht, e1, e2, e3]
section OPS
variable {K : Nat} {d : Nat → ClassId} {M : Nat → Int32} {F : Nat → Nat → Int32} {X : Nat → Int32} {XF : Nat → Nat → Int32} {G : Nat → Nat → Int64} {g gx : Nat → Int64} {P : Nat → Nat → Option Nat} {tl : va_W}
/-- the memory: n entries, those of the tail -/
theorem FR.mem (h : FR d M F X XF G P tl) : ∃ n : Nat, F 0 205 = oN n ∧ n ≤ 16 ∧ X 72 = oN n ∧ (∀ k, k < n → ∃ q, P 18 k = some q ∧ (q, (.inr (16, [.int (F 0 (206 + k)), .int (F 0 (222 + k)), .int (F 0 (238 + k))]) : va_E)) ∈ tl) ∧ (∀ k, n ≤ k → P 18 k = none) ∧ ∀ k, k < n → (1500 ≤ (F 0 (206 + k)).toInt ∧ (F 0 (206 + k)).toInt ≤ 30000) ∧ 0 ≤ (F 0 (222 + k)).toInt ∧ (F 0 (222 + k)).toInt ≤ 8191 := by
  obtain ⟨bl, rest, ch, n, hc, hm, h2, hh, hp, hf, h10, ht⟩ := h
  obtain ⟨h1, h2, h3, h4, h5⟩ := hm
  have e := nn32 h2.1
  refine ⟨(X 72).toNatClampNeg, ?_, by omega, oN_of e.symm, fun k hk => ?_, fun k hk => h4 k (by omega), fun k hk => h5 k (by omega)⟩
  · rw [← h1]; exact oN_of e.symm
  · obtain ⟨q, a, b⟩ := h3 k (by omega)
    exact ⟨q, a, subP hp _ b⟩
theorem iseM (h : FR d M F X XF G P tl) {n : Nat} (hn : F 0 205 = oN n) (h16 : n ≤ 16) (K : Nat) (v : Int32) : fX4_isEntry K v (M, g, F) = some (decide (0 ≤ v.toInt ∧ v.toInt < n), (M, g, F)) := by
  have en : (oN n).toInt = n := oNi (by omega)
  have e1 : (oN n - 1).toInt = n - 1 := by rw [s32, en, k32_1] <;> (try rw [en, k32_1]) <;> omega
  unfold fX4_isEntry
  rw [if_neg h.ld.nl]
  refine (ga_t ⟨by decide, by decide⟩).trans ?_
  show b1 (fX4_isIn K v.toInt64 0 (F 0 205 - 1).toInt64) _ = _
  rw [hn]
  refine (b1_e (v := decide (0 ≤ v.toInt ∧ v.toInt < n)) ?_).trans ?_
  · rw [isInM, w64, w64, e1]
    congr 1
    rw [decide_eq_decide]
    show (0 : Int) ≤ _ ∧ _ ↔ _
    clear e1
    omega
  · by_cases c : 0 ≤ v.toInt ∧ v.toInt < n
    · rw [decide_eq_true c]; rfl
    · rw [decide_eq_false c]; rfl
theorem iseX {n : Nat} (hn : X 72 = oN n) (h16 : n ≤ 16) (K : Nat) (v : Int32) : fX0_isEntry K v ((X, gx, XF, G, P), tl) = some (decide (0 ≤ v.toInt ∧ v.toInt < n), ((X, gx, XF, G, P), tl)) := by
  have en : (oN n).toInt = n := oNi (by omega)
  have e1 : (oN n - 1).toInt = n - 1 := by rw [s32, en, k32_1] <;> (try rw [en, k32_1]) <;> omega
  unfold fX0_isEntry
  refine (b2_e (readyX K _)).trans ?_
  rw [nmr, if_pos rfl, xmrg_r]
  show b1 (some (X 72)) _ = _
  rw [hn]
  refine (b1_e rfl).trans ?_
  refine (b1_e (v := decide (0 ≤ v.toInt ∧ v.toInt < n)) ?_).trans ?_
  · rw [isInX, e1]
    congr 1
    rw [decide_eq_decide]
    show (0 : Int) ≤ _ ∧ _ ↔ _
    clear e1
    omega
  · by_cases c : 0 ≤ v.toInt ∧ v.toInt < n
    · rw [decide_eq_true c]; rfl
    · rw [decide_eq_false c]; rfl
/-- alike, and nothing at all is changed -/
def RX {α : Type} (fa : Option (α × MS)) (fb : Option (α × XT)) (μ : MS) (ζ : XT) : Prop := ∃ r, fa = some (r, μ) ∧ fb = some (r, ζ)
theorem q_memoryCount (h : FR d M F X XF G P tl) : RX (fX4_memoryCount K (M, g, F)) (fX0_memoryCount K ((X, gx, XF, G, P), tl)) (M, g, F) ((X, gx, XF, G, P), tl) := by
  obtain ⟨n, h1, h2, h3, -⟩ := h.mem
  refine ⟨oN n, ?_, ?_⟩
  · unfold fX4_memoryCount
    rw [if_neg h.ld.nl]
    refine (ga_t ⟨by decide, by decide⟩).trans ?_
    show some (F 0 205, _) = _
    rw [h1]
  · unfold fX0_memoryCount
    refine (b2_e (readyX K _)).trans ?_
    rw [nmr, if_pos rfl, xmrg_r]
    refine (b1_e (v := oN n) ?_).trans rfl
    show some (X 72) = _
    rw [h3]
theorem q_memoryFrequency (h : FR d M F X XF G P tl) (hnd : NDt tl) (v : Int32) : RX (fX4_memoryFrequency K v (M, g, F)) (fX0_memoryFrequency K v ((X, gx, XF, G, P), tl)) (M, g, F) ((X, gx, XF, G, P), tl) := by
  obtain ⟨n, h1, h2, h3, h4, -⟩ := h.mem
  by_cases c : 0 ≤ v.toInt ∧ v.toInt < n
  · obtain ⟨j, hj, hjn⟩ : ∃ j : Nat, v = oN j ∧ j < n := ⟨v.toNatClampNeg, oN_of (nn32 c.1).symm, by have := nn32 c.1; omega⟩
    obtain ⟨q, hq, he⟩ := h4 j hjn
    have ej : (oN j).toInt = j := oNi (by omega)
    have en : (X 72).toInt = n := by rw [h3]; exact oNi (by omega)
    have o1 : 206 + j < 254 := by omega
    have o2 : 206 + j < 2147483648 := by omega
    have o3 : (X 72).toInt ≤ 16 := by omega
    have o4 : (j : Int) < (X 72).toInt := by omega
    have e5 : (206 + oN j : Int32).toInt = (206 + j : Nat) := addN (x := 206) rfl ej o2
    refine ⟨F 0 (206 + j), ?_, ?_⟩
    · unfold fX4_memoryFrequency
      refine (b2_e (iseM h h1 h2 K v)).trans ?_
      rw [if_pos (decide_eq_true c), hj]
      refine (ga_t (ixN e5 o1)).trans ?_
      rw [nnN e5]
    · unfold fX0_memoryFrequency
      refine (b2_e (iseX h3 h2 K v)).trans ?_
      rw [if_pos (decide_eq_true c), hj]
      refine (b1_e (jget K (mc := X 70) o3 o4 hq)).trans ?_
      refine (b1_e (entOf_of hnd he)).trans ?_
      rfl
  · refine ⟨-1, ?_, ?_⟩
    · unfold fX4_memoryFrequency
      refine (b2_e (iseM h h1 h2 K v)).trans ?_
      rw [if_neg (by rw [decide_eq_false c]; decide)]
    · unfold fX0_memoryFrequency
      refine (b2_e (iseX h3 h2 K v)).trans ?_
      rw [if_neg (by rw [decide_eq_false c]; decide)]
theorem q_memorySettings (h : FR d M F X XF G P tl) (hnd : NDt tl) (v : Int32) : RX (fX4_memorySettings K v (M, g, F)) (fX0_memorySettings K v ((X, gx, XF, G, P), tl)) (M, g, F) ((X, gx, XF, G, P), tl) := by
  obtain ⟨n, h1, h2, h3, h4, -⟩ := h.mem
  by_cases c : 0 ≤ v.toInt ∧ v.toInt < n
  · obtain ⟨j, hj, hjn⟩ : ∃ j : Nat, v = oN j ∧ j < n := ⟨v.toNatClampNeg, oN_of (nn32 c.1).symm, by have := nn32 c.1; omega⟩
    obtain ⟨q, hq, he⟩ := h4 j hjn
    have ej : (oN j).toInt = j := oNi (by omega)
    have en : (X 72).toInt = n := by rw [h3]; exact oNi (by omega)
    have o1 : 222 + j < 254 := by omega
    have o2 : 222 + j < 2147483648 := by omega
    have o3 : (X 72).toInt ≤ 16 := by omega
    have o4 : (j : Int) < (X 72).toInt := by omega
    have e5 : (222 + oN j : Int32).toInt = (222 + j : Nat) := addN (x := 222) rfl ej o2
    refine ⟨F 0 (222 + j), ?_, ?_⟩
    · unfold fX4_memorySettings
      refine (b2_e (iseM h h1 h2 K v)).trans ?_
      rw [if_pos (decide_eq_true c), hj]
      refine (ga_t (ixN e5 o1)).trans ?_
      rw [nnN e5]
    · unfold fX0_memorySettings
      refine (b2_e (iseX h3 h2 K v)).trans ?_
      rw [if_pos (decide_eq_true c), hj]
      refine (b1_e (jget K (mc := X 70) o3 o4 hq)).trans ?_
      refine (b1_e (entOf_of hnd he)).trans ?_
      rfl
  · refine ⟨-1, ?_, ?_⟩
    · unfold fX4_memorySettings
      refine (b2_e (iseM h h1 h2 K v)).trans ?_
      rw [if_neg (by rw [decide_eq_false c]; decide)]
    · unfold fX0_memorySettings
      refine (b2_e (iseX h3 h2 K v)).trans ?_
      rw [if_neg (by rw [decide_eq_false c]; decide)]
theorem q_memorySwr (h : FR d M F X XF G P tl) (hnd : NDt tl) (v : Int32) : RX (fX4_memorySwr K v (M, g, F)) (fX0_memorySwr K v ((X, gx, XF, G, P), tl)) (M, g, F) ((X, gx, XF, G, P), tl) := by
  obtain ⟨n, h1, h2, h3, h4, -⟩ := h.mem
  by_cases c : 0 ≤ v.toInt ∧ v.toInt < n
  · obtain ⟨j, hj, hjn⟩ : ∃ j : Nat, v = oN j ∧ j < n := ⟨v.toNatClampNeg, oN_of (nn32 c.1).symm, by have := nn32 c.1; omega⟩
    obtain ⟨q, hq, he⟩ := h4 j hjn
    have ej : (oN j).toInt = j := oNi (by omega)
    have en : (X 72).toInt = n := by rw [h3]; exact oNi (by omega)
    have o1 : 238 + j < 254 := by omega
    have o2 : 238 + j < 2147483648 := by omega
    have o3 : (X 72).toInt ≤ 16 := by omega
    have o4 : (j : Int) < (X 72).toInt := by omega
    have e5 : (238 + oN j : Int32).toInt = (238 + j : Nat) := addN (x := 238) rfl ej o2
    refine ⟨F 0 (238 + j), ?_, ?_⟩
    · unfold fX4_memorySwr
      refine (b2_e (iseM h h1 h2 K v)).trans ?_
      rw [if_pos (decide_eq_true c), hj]
      refine (ga_t (ixN e5 o1)).trans ?_
      rw [nnN e5]
    · unfold fX0_memorySwr
      refine (b2_e (iseX h3 h2 K v)).trans ?_
      rw [if_pos (decide_eq_true c), hj]
      refine (b1_e (jget K (mc := X 70) o3 o4 hq)).trans ?_
      refine (b1_e (entOf_of hnd he)).trans ?_
      rfl
  · refine ⟨-1, ?_, ?_⟩
    · unfold fX4_memorySwr
      refine (b2_e (iseM h h1 h2 K v)).trans ?_
      rw [if_neg (by rw [decide_eq_false c]; decide)]
    · unfold fX0_memorySwr
      refine (b2_e (iseX h3 h2 K v)).trans ?_
      rw [if_neg (by rw [decide_eq_false c]; decide)]
end OPS
