/-! plain law: remember on both sides -/
set_option maxRecDepth 100000
theorem vau_e {α : Type} (f : Nat → α) (k : Nat) (v : α) (j : Nat) : va_up f k v j = if j = k then v else f j := rfl
theorem mdl {h i n : Nat} (h0 : h < 17) (hi : i < n) (hn : n ≤ 12) : ¬ (h + i) % 17 = (h + n) % 17 := by omega
theorem HR.add {d past past' n h t dq rest bl S q cs v} (H : HR d past n h t dq rest bl) (hn : n ≤ 11) (hS : SB d S rest q cs) (e : ∀ k, k < 254 * n → past' k = past k) (eS : ∀ k, k < 254 → past' (254 * n + k) = S k) (hv : v.toInt = (h.toInt + (n + 1 : Nat)) % 17) : HR d past' (n + 1) h v (va_up dq ((h.toInt.toNat + n) % 17) (some q)) rest (bl ++ [(q, cs)]) := by
  have H0 := H.cg e (fun c hc => hc)
  obtain ⟨h1, h2, h3, h4, h5⟩ := H0
  refine ⟨by rw [List.length_append, h1]; rfl, by omega, h3, hv, fun i b hb => ?_⟩
  rw [List.getElem?_append] at hb
  rw [vau_e]
  split at hb
  · rename_i hi
    obtain ⟨a, c⟩ := h5 i b hb
    rw [if_neg (mdl (by omega) (by omega) (by omega))]
    exact ⟨a, c⟩
  · rename_i hi
    have hi2 := (List.getElem?_eq_some_iff.mp hb).1
    have hi3 : i = n := by
      have : [(q, cs)].length = 1 := rfl
      omega
    subst hi3
    rw [h1, Nat.sub_self] at hb
    have : b = (q, cs) := (Option.some.inj hb).symm
    subst this
    rw [if_pos rfl]
    exact ⟨rfl, hS.cg (fun k hk => eS k hk) (fun c hc => hc)⟩
theorem mdl2 {h i : Nat} (h0 : h < 17) (hi : i < 12) : ¬ (h + (i + 1)) % 17 = h := by omega
theorem mdl3 {h h' : Int} {i : Nat} (h0 : 0 ≤ h) (h0' : 0 ≤ h') (e : h' = (h + 1) % 17) : (h'.toNat + i) % 17 = (h.toNat + (i + 1)) % 17 := by omega
theorem mdl4 {h h' t : Int} {n : Nat} (e : h' = (h + 1) % 17) (et : t = (h + (n + 1 : Nat)) % 17) : t = (h' + n) % 17 := by omega
theorem HR.drop {d past n h t dq rest bl v} (H : HR d past (n + 1) h t dq rest bl) (hv : v.toInt = (h.toInt + 1) % 17) : ∃ b0 bt, bl = b0 :: bt ∧ dq h.toInt.toNat = some b0.1 ∧ HR d (fun k => past (254 + k)) n v t (va_up dq h.toInt.toNat none) (b0.2 ++ rest) bt := by
  obtain ⟨h1, h2, h3, h4, h5⟩ := H
  cases bl with
  | nil => cases h1
  | cons b0 bt =>
    have h1 : bt.length = n := by rw [List.length_cons] at h1; omega
    have hm : h.toInt.toNat % 17 = h.toInt.toNat := by omega
    refine ⟨b0, bt, rfl, ?_, h1, by omega, by omega, mdl4 hv h4, fun i b hb => ?_⟩
    · have := (h5 0 b0 rfl).1
      rw [Nat.add_zero, hm] at this
      exact this
    · obtain ⟨a, c⟩ := h5 (i + 1) b hb
      have hi := (List.getElem?_eq_some_iff.mp hb).1
      rw [mdl3 h3.1 (by omega) hv, vau_e, if_neg (mdl2 (by omega) (by omega))]
      refine ⟨a, c.cg (fun k hk => ?_) (fun c hc => List.mem_append_right _ hc)⟩
      show past (254 + (254 * i + k)) = past (254 * (i + 1) + k)
      congr 1
      omega
theorem perm_r {α : Type} (a b c r : List α) : (a ++ (b ++ c ++ r)).Perm (c ++ a ++ (b ++ r)) := by
  rw [List.append_assoc b, List.append_assoc c]
  refine (List.perm_append_comm_assoc a b (c ++ r)).trans ?_
  refine (List.Perm.append_left b (List.perm_append_comm_assoc a c r)).trans ?_
  refine (List.perm_append_comm_assoc b c (a ++ r)).trans ?_
  exact List.Perm.append_left c (List.perm_append_comm_assoc b a r)
theorem perm_s {α : Type} (a c r : List α) : (a ++ (c ++ r)).Perm (c ++ a ++ r) := by
  rw [List.append_assoc c]
  exact List.perm_append_comm_assoc a c r
/-- what remember leaves -/
def Rem (d : Nat → ClassId) (M M' : Nat → Int32) (F F' : Nat → Nat → Int32) (X X' : Nat → Int32) (XF : Nat → Nat → Int32) (G : Nat → Nat → Int64) (P P' : Nat → Nat → Option Nat) (tl' : va_W) : Prop :=
  FR d M' F' X' XF G P' tl' ∧ (∀ k, k ≠ 2 → M' k = M k) ∧ (∀ k, k ≠ 1 → F' k = F k) ∧ (∀ k, k ≠ 81 → k ≠ 82 → X' k = X k) ∧ ∀ k, k ≠ 19 → P' k = P k
theorem CR.cg {M F X XF G M' F' X'} (h : CR M F X XF G) (e1 : ∀ k, k ≠ 2 → M' k = M k) (e2 : ∀ k, k ≠ 1 → F' k = F k) (e3 : ∀ k, k ≠ 81 → k ≠ 82 → X' k = X k) : CR M' F' X' XF G := by
  refine CR.mk (h.t.cg (fun k _ _ => e1 k (by omega)) (fun k _ _ => e2 k (by omega)) (fun k _ _ => e3 k (by omega) (by omega)) (fun k _ _ => rfl)) ?_ ?_
  · rw [e2 0 (by decide)]
    exact h.s.cx (fun k _ _ => e3 k (by omega) (by omega)) (fun k _ _ => rfl)
  · rw [e1 3 (by decide)]; exact h.ld
theorem remB {K : Nat} {d : Nat → ClassId} {M : Nat → Int32} {F : Nat → Nat → Int32} {X : Nat → Int32} {XF : Nat → Nat → Int32} {G : Nat → Nat → Int64} {P : Nat → Nat → Option Nat} {tl : va_W} (h : FR d M F X XF G P tl) (hK : 4000 ≤ K) (g gx : Nat → Int64) : ∃ (M' : Nat → Int32) (F' : Nat → Nat → Int32) (X' : Nat → Int32) (P' : UU → Nat → Nat → Option Nat) (tl' : UU → va_W), fX4_remember K (M, g, F) = some (M', g, F') ∧ (∀ u, fX0_remember K d u ((X, gx, XF, G, P), tl) = some ((X', gx, XF, G, P' u), tl' u)) ∧ ∀ u : UU, Rem d M M' F F' X X' XF G P (P' u) (tl' u) := by
  obtain ⟨bl, rest, ch, n, hc, hm, h2, hh, hp, hf, h10, ht⟩ := h
  have hn := hh.2.1
  obtain ⟨p, f1, f2, f3⟩ := remM hK M g F n hn h2
  have hsub := subP hp
  have hSB : ∀ q q1 q2 q3 q4, SB d (F 0) rest q (BC d (mup X 70 (X 72)) XF (P 18) q q1 q2 q3 q4) := fun q q1 q2 q3 q4 =>
    ⟨mup X 70 (X 72), XF, P 18, q1, q2, q3, q4, hc.s.cx (fun k _ _ => mup_n _ _ (by omega)) (fun k _ _ => rfl), by simp only [mup_e, Nat.reduceEqDiff, reduceIte]; exact hm, rfl⟩
  by_cases c : n = 12
  · subst c
    obtain ⟨q0, hq0⟩ : ∃ q, P 19 (X 81).toInt.toNat = some q := by
      obtain ⟨b0, bt, _, a, _⟩ := HR.drop (v := oN (((X 81).toInt + 1) % 17).toNat) hh (by rw [oNi (by omega)]; have := hh.2.2.1; omega)
      exact ⟨_, a⟩
    obtain ⟨v, g1, g2⟩ := dq_first K (t := X 82) hh.2.2.1 hq0
    obtain ⟨b0, bt, eb, k1, k2⟩ := HR.drop hh g2
    have hsz := dq_size K (P := P 19) hh.2.2.1 hh.2.1 hh.2.2.2.1
    obtain ⟨v2, g3, g4⟩ : ∃ v2 : Int32, (∀ o, fJ2_addLast K o (v, X 82, va_up (P 19) (X 81).toInt.toNat none) = some (v, v2, va_up (va_up (P 19) (X 81).toInt.toNat none) ((v.toInt.toNat + 11) % 17) (some o))) ∧ v2.toInt = (v.toInt + (11 + 1 : Nat)) % 17 := by
      obtain ⟨v2, a, b⟩ := dq_add K (o := 0) (P := va_up (P 19) (X 81).toInt.toNat none) k2.2.2.1 (by omega) k2.2.2.2.1
      refine ⟨v2, fun o => ?_, b⟩
      obtain ⟨v3, a3, b3⟩ := dq_add K (o := o) (P := va_up (P 19) (X 81).toInt.toNat none) k2.2.2.1 (by omega) k2.2.2.2.1
      have : v3 = v2 := by rw [eq32, b, b3]
      rw [this] at a3
      exact a3
    refine ⟨_, _, mup (mup (mup (mup X 81 v) 82 (X 82)) 81 v) 82 v2, fun u => mup (mup P 19 (va_up (P 19) (X 81).toInt.toNat none)) 19 (va_up (va_up (P 19) (X 81).toInt.toNat none) ((v.toInt.toNat + 11) % 17) (some (u 0))), fun u => BC d (mup X 70 (X 72)) XF (P 18) (u 0) (u 1) (u 3) (u 5) (u 7) ++ tl, f1, fun u => ?_, fun u => ?_⟩
    · unfold fX0_remember
      refine (b1_e (v := oN 12) hsz).trans ?_
      rw [if_pos (show oN 12 = 12 from rfl)]
      refine (b2_e g1).trans ?_
      rw [nmr]
      unfold ask b1u
      refine (b1_e (v := BC d (mup X 70 (X 72)) XF (P 18) (u 0) (u 1) (u 3) (u 5) (u 7)) ?_).trans ?_
      · refine copyX (by omega) d (u 0) (S := F 0) (rest := rest) ?_ ?_ hsub _
        · exact hc.s.cx (fun k _ _ => by show mup (mup X 81 v) 82 (X 82) k = X k; rw [mup_n _ _ (by omega), mup_n _ _ (by omega)]) (fun k _ _ => rfl)
        · exact hm
      · show nm _ _ = _
        rw [nmr]
        refine (gaP_t ⟨_, List.mem_append_left _ (List.mem_cons_self ..)⟩).trans ?_
        refine (b1_e (g3 (u 0))).trans ?_
        rfl
    · have k3 := k2.add (q := u 0) (cs := BC d (mup X 70 (X 72)) XF (P 18) (u 0) (u 1) (u 3) (u 5) (u 7)) (past' := p) (S := F 0) (v := v2) (by omega) ((hSB _ _ _ _ _).cg (fun k _ => rfl) (fun c hc => List.mem_append_right _ hc)) (fun k hk => ?_) (fun k hk => f2 k hk) g4
      · refine ⟨⟨bt ++ [(u 0, BC d (mup X 70 (X 72)) XF (P 18) (u 0) (u 1) (u 3) (u 5) (u 7))], b0.2 ++ rest, ch, 12, hc.cg (fun k hk => mup_n _ _ hk) (fun k hk => mup_n _ _ hk) (fun k h81 h82 => ?_), ?_, mup_s _ _ _, ?_, ?_, ?_, ?_, ?_⟩, fun k hk => mup_n _ _ hk, fun k hk => mup_n _ _ hk, fun k h81 h82 => ?_, fun k hk => ?_⟩
        · rw [mup_n _ _ h82, mup_n _ _ h81, mup_n _ _ h82, mup_n _ _ h81]
        · simp only [mup_e, Nat.reduceEqDiff, reduceIte]
          exact hm.cg (fun k _ _ => rfl) (fun c hc => List.mem_append_right _ hc)
        · simp only [mup_e, Nat.reduceEqDiff, reduceIte]
          exact k3
        · refine (List.Perm.append_left _ hp).trans ?_
          rw [eb, List.flatMap_cons, List.flatMap_append]
          exact perm_r _ _ _ _
        · simp only [mup_e, Nat.reduceEqDiff, reduceIte]
          exact hf.cg (mup_n M _ (by decide)) (mup_n F _ (by decide)) (mup_n F _ (by decide)) (fun c hc => List.mem_append_right _ hc)
        · simp only [mup_e, Nat.reduceEqDiff, reduceIte]
          exact h10
        · refine ht.cg (mup_n M _ (by decide)) (mup_n M _ (by decide)) (mup_n F _ (by decide)) ?_ ?_ rfl
          · simp only [mup_e, Nat.reduceEqDiff, reduceIte]
          · simp only [mup_e, Nat.reduceEqDiff, reduceIte]
        · rw [mup_n _ _ h82, mup_n _ _ h81, mup_n _ _ h82, mup_n _ _ h81]
        · simp only [mup_e, if_neg hk]
      · show p k = F 1 (254 + k)
        have := f3 (k / 254) (k % 254) (by rw [if_pos rfl]; omega) (by omega)
        rw [if_pos rfl] at this
        have e1 : 254 * (k / 254) + k % 254 = k := by omega
        have e2 : 254 * (k / 254 + 1) + k % 254 = 254 + k := by omega
        rw [e1, e2] at this
        exact this
  · rw [if_neg c] at f1 f2
    have hsz := dq_size K (P := P 19) hh.2.2.1 hh.2.1 hh.2.2.2.1
    obtain ⟨v2, g3, g4⟩ : ∃ v2 : Int32, (∀ o, fJ2_addLast K o (X 81, X 82, P 19) = some (X 81, v2, va_up (P 19) (((X 81).toInt.toNat + n) % 17) (some o))) ∧ v2.toInt = ((X 81).toInt + (n + 1 : Nat)) % 17 := by
      obtain ⟨v2, a, b⟩ := dq_add K (o := 0) (P := P 19) hh.2.2.1 hh.2.1 hh.2.2.2.1
      refine ⟨v2, fun o => ?_, b⟩
      obtain ⟨v3, a3, b3⟩ := dq_add K (o := o) (P := P 19) hh.2.2.1 hh.2.1 hh.2.2.2.1
      have : v3 = v2 := by rw [eq32, b, b3]
      rw [this] at a3
      exact a3
    refine ⟨_, _, mup (mup X 81 (X 81)) 82 v2, fun u => mup P 19 (va_up (P 19) (((X 81).toInt.toNat + n) % 17) (some (u 0))), fun u => BC d (mup X 70 (X 72)) XF (P 18) (u 0) (u 1) (u 3) (u 5) (u 7) ++ tl, f1, fun u => ?_, fun u => ?_⟩
    · unfold fX0_remember
      refine (b1_e (v := oN n) hsz).trans ?_
      rw [if_neg (show ¬ oN n = 12 by rw [eq32, oNi (by omega)]; show ¬ (n : Int) = 12; omega)]
      unfold ask b1u
      refine (b1_e (v := BC d (mup X 70 (X 72)) XF (P 18) (u 0) (u 1) (u 3) (u 5) (u 7)) ?_).trans ?_
      · exact copyX (by omega) d (u 0) (S := F 0) (rest := rest) hc.s hm hsub _
      · show nm _ _ = _
        rw [nmr]
        refine (gaP_t ⟨_, List.mem_append_left _ (List.mem_cons_self ..)⟩).trans ?_
        refine (b1_e (g3 (u 0))).trans ?_
        rfl
    · have k3 := hh.add (q := u 0) (cs := BC d (mup X 70 (X 72)) XF (P 18) (u 0) (u 1) (u 3) (u 5) (u 7)) (past' := p) (S := F 0) (v := v2) (by omega) (hSB _ _ _ _ _) (fun k hk => ?_) (fun k hk => f2 k hk) g4
      · refine ⟨⟨bl ++ [(u 0, BC d (mup X 70 (X 72)) XF (P 18) (u 0) (u 1) (u 3) (u 5) (u 7))], rest, ch, n + 1, hc.cg (fun k hk => mup_n _ _ hk) (fun k hk => mup_n _ _ hk) (fun k h81 h82 => ?_), ?_, mup_s _ _ _, ?_, ?_, ?_, ?_, ?_⟩, fun k hk => mup_n _ _ hk, fun k hk => mup_n _ _ hk, fun k h81 h82 => ?_, fun k hk => ?_⟩
        · rw [mup_n _ _ h82, mup_n _ _ h81]
        · simp only [mup_e, Nat.reduceEqDiff, reduceIte]
          exact hm
        · simp only [mup_e, Nat.reduceEqDiff, reduceIte]
          exact k3
        · refine (List.Perm.append_left _ hp).trans ?_
          rw [List.flatMap_append]
          exact perm_s _ _ _
        · simp only [mup_e, Nat.reduceEqDiff, reduceIte]
          exact hf.cg (mup_n M _ (by decide)) (mup_n F _ (by decide)) (mup_n F _ (by decide)) (fun c hc => hc)
        · simp only [mup_e, Nat.reduceEqDiff, reduceIte]
          exact h10
        · refine ht.cg (mup_n M _ (by decide)) (mup_n M _ (by decide)) (mup_n F _ (by decide)) ?_ ?_ rfl
          · simp only [mup_e, Nat.reduceEqDiff, reduceIte]
          · simp only [mup_e, Nat.reduceEqDiff, reduceIte]
        · rw [mup_n _ _ h82, mup_n _ _ h81]
        · simp only [mup_e, if_neg hk]
      · have := f3 (k / 254) (k % 254) (by rw [if_neg c]; omega) (by omega)
        rw [if_neg c] at this
        have e1 : 254 * (k / 254) + k % 254 = k := by omega
        rw [e1] at this
        exact this
