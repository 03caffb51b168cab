/-! plain law: undo -/
set_option maxRecDepth 100000
theorem und31 (K : Nat) (M : Nat → Int32) (g : Nat → Int64) (a : Nat) (ha : a ≤ 11) (hM : M 2 = oN a) (n : Nat) : ∀ (m j : Nat) (F : Nat → Nat → Int32), j + n = 254 → n + 1 ≤ m → ∃ S, fX4_undo_L31 K m (oN j) (M, g, F) = some (oN a, (M, g, mup F 0 S)) ∧ ∀ i, S i = if j ≤ i ∧ i < 254 then F 1 (254 * a + i) else F 0 i := by
  induction n with
  | zero =>
    intro m j F hj hm
    obtain ⟨m, rfl⟩ : ∃ k, m = k + 1 := ⟨m - 1, by omega⟩
    refine ⟨F 0, ?_, fun i => by rw [if_neg (by omega)]⟩
    rw [fX4_undo_L31, if_pos (by rw [le32, k32_254, oNi (by omega)]; omega), mup_id _ _ _ rfl]
    show some (M 2, _) = _
    rw [hM]
  | succ n ih =>
    intro m j F hj hm
    obtain ⟨m, rfl⟩ : ∃ k, m = k + 1 := ⟨m - 1, by omega⟩
    have o1 : 254 * a + j < 2147483648 := by omega
    have o2 : 254 * a + j < 3048 := by omega
    have o3 : j < 254 := by omega
    have o4 : j + 1 < 2147483648 := by omega
    have ej : (oN j).toInt = j := oNi (by omega)
    have ea : (oN a).toInt = a := oNi (by omega)
    have nc : ¬ (254 : Int32) ≤ oN j := by rw [le32, k32_254, ej]; omega
    obtain ⟨S, h1, h2⟩ := ih m (j + 1) (mup F 0 (upd (F 0) j (F 1 (254 * a + j)))) (by omega) (by omega)
    rw [mup_mup] at h1
    refine ⟨S, ?_, fun i => ?_⟩
    · have e1 : (254 * oN a : Int32).toInt = (254 * a : Nat) := by rw [m32, k32_254, ea] <;> (try rw [k32_254, ea]) <;> omega
      have e2 : (254 * oN a + oN j : Int32).toInt = (254 * a + j : Nat) := addN e1 ej o1
      rw [fX4_undo_L31, if_neg nc]
      show ga (ix (254 * M 2 + oN j) 3048) (ga (ix (oN j) 254) (nm (sF (M, g, F) 0 (upd (F 0) (oN j).toNatClampNeg (F 1 (254 * M 2 + oN j).toNatClampNeg))) fun μ_7 => fX4_undo_L31 K m (oN j + 1) μ_7)) = _
      rw [hM]
      refine (ga_t (ixN e2 o2)).trans ?_
      refine (ga_t (ixN ej o3)).trans ?_
      rw [nnN e2, nnN ej, oN_s o4, nmr]
      exact h1
    · rw [h2 i, mup_n F _ (by decide), mup_s, upd_e]
      by_cases c : i = j
      · rw [if_neg (by omega), if_pos c, if_pos (by omega), c]
      · by_cases c2 : j + 1 ≤ i ∧ i < 254
        · rw [if_pos c2, if_pos (by omega)]
        · rw [if_neg c2, if_neg c, if_neg (by omega)]
theorem HR.last {d past n h t dq rest bl} (H : HR d past (n + 1) h t dq rest bl) : ∃ bt q cs, bl = bt ++ [(q, cs)] ∧ dq ((h.toInt.toNat + n) % 17) = some q ∧ SB d (fun k => past (254 * n + k)) rest q cs ∧ ∀ v : Int32, v.toInt = (h.toInt + n) % 17 → HR d past n h v (va_up dq ((h.toInt.toNat + n) % 17) none) rest bt := by
  obtain ⟨h1, h2, h3, h4, h5⟩ := H
  obtain ⟨bt, b0, rfl⟩ : ∃ bt b0, bl = bt ++ [b0] := by
    rcases List.eq_nil_or_concat bl with e | ⟨L, b, e⟩
    · rw [e] at h1; cases h1
    · exact ⟨L, b, by rw [e, List.concat_eq_append]⟩
  have hl : bt.length = n := by rw [List.length_append] at h1; have : [b0].length = 1 := rfl; omega
  have hi : (bt ++ [b0])[n]? = some b0 := by
    rw [List.getElem?_append_right (by omega), hl, Nat.sub_self]
    rfl
  obtain ⟨a, c⟩ := h5 n _ hi
  refine ⟨bt, b0.1, b0.2, rfl, a, c, fun v hv => ⟨hl, by omega, h3, hv, fun i b hb => ?_⟩⟩
  have hin := (List.getElem?_eq_some_iff.mp hb).1
  have hb2 : (bt ++ [b0])[i]? = some b := by
    rw [List.getElem?_append_left hin]
    exact hb
  obtain ⟨a2, c2⟩ := h5 i b hb2
  rw [vau_e, if_neg (mdl (by omega) (by omega) (by omega))]
  exact ⟨a2, c2⟩
theorem perm5 {α : Type} (a b c d e : α) : [a, b, c, d, e].Perm [a, d, e, b, c] := List.Perm.cons a (List.perm_append_comm (l₁ := [b, c]) (l₂ := [d, e]))
/-- the cells of a State, in the order of a world -/
abbrev BO (d : Nat → ClassId) (X : Nat → Int32) (XF : Nat → Nat → Int32) (L : Nat → Option Nat) (q q1 q2 q3 q4 : Nat) : va_W := [(q, .inr (8, [.int (X 60), .int (X 61), .int (X 62), .int (X 63), .ref q3, .ref q4, .int (X 66), .ref q1])), (q3, .inl (d 0, 100, .inl (XF 64))), (q4, .inl (d 3, 100, .inl (XF 65))), (q1, .inr (18, [.int (X 70), .ref q2, .int (X 72)])), (q2, .inl (d 4, 16, .inr (.inr (.inr (.inr L)))))]
theorem BO_perm (d : Nat → ClassId) (X : Nat → Int32) (XF : Nat → Nat → Int32) (L : Nat → Option Nat) (q q1 q2 q3 q4 : Nat) : (BC d X XF L q q1 q2 q3 q4).Perm (BO d X XF L q q1 q2 q3 q4) := perm5 _ _ _ _ _
theorem perm_u {α : Type} (A S B tl bt cs C rest : List α) (h : tl.Perm ((bt ++ cs) ++ rest)) (hc : cs.Perm C) : ((A ++ (S ++ B)) ++ tl).Perm ((A ++ (C ++ B)) ++ (S ++ (bt ++ rest))) := by
  refine (List.Perm.append_left _ (h.trans (List.Perm.append_right _ (List.Perm.append_left _ hc)))).trans ?_
  rw [List.append_assoc A, List.append_assoc A]
  refine List.Perm.append_left A ?_
  rw [List.append_assoc, List.append_assoc, List.append_assoc]
  -- S ++ (B ++ (bt ++ (C ++ rest)))  ~  C ++ (B ++ (S ++ (bt ++ rest)))
  refine (List.Perm.append_left S (List.Perm.append_left B (List.perm_append_comm_assoc bt C rest))).trans ?_
  refine (List.Perm.append_left S (List.perm_append_comm_assoc B C (bt ++ rest))).trans ?_
  refine (List.perm_append_comm_assoc S C (B ++ (bt ++ rest))).trans ?_
  exact List.Perm.append_left C (List.perm_append_comm_assoc S B (bt ++ rest))
section OPS
variable {K : Nat} {d : Nat → ClassId} {M : Nat → Int32} {F : Nat → Nat → Int32} {X : Nat → Int32} {XF : Nat → Nat → Int32} {G : Nat → Nat → Int64} {g gx : Nat → Int64} {P : Nat → Nat → Option Nat} {tl : va_W}
/-- the State's addresses replaced -/
def bst (b : Nat → Nat) (q q1 q2 q3 q4 : Nat) : Nat → Nat := fun k => if k = 13 then q else if k = 14 then q3 else if k = 15 then q4 else if k = 17 then q1 else if k = 18 then q2 else b k
def xst (X Y : Nat → Int32) : Nat → Int32 := fun k => if (60 ≤ k ∧ k < 67) ∨ k = 70 ∨ k = 72 then Y k else X k
def fst (XF YF : Nat → Nat → Int32) : Nat → Nat → Int32 := fun k => if k = 64 ∨ k = 65 then YF k else XF k
theorem q_undo (h : FR d M F X XF G P tl) (hK : 4000 ≤ K) (z : ZT) (b : Nat → Nat) : (RX (fX4_undo K (M, g, F)) (fX0_undo K ((X, gx, XF, G, P), tl)) (M, g, F) ((X, gx, XF, G, P), tl)) ∨ ∃ (r : Int32) (μ' : MS) (ζ' : XT) (b' : Nat → Nat) (y : XT), fX4_undo K (M, g, F) = some (r, μ') ∧ fX0_undo K ((X, gx, XF, G, P), tl) = some (r, ζ') ∧ (XV d z b ζ'.1 ++ ζ'.2).Perm (XW d z b' y.1 ++ y.2) ∧ FRt d μ' y ∧ (∀ k, k ≠ 13 → k ≠ 14 → k ≠ 15 → k ≠ 17 → k ≠ 18 → b' k = b k) := by
  have nl := h.ld.nl
  obtain ⟨bl, rest, ch, n, hc, hm, h2, hh, hp, hf, h10, ht⟩ := h
  have hem := dq_empty K (P := P 19) hh.2.2.1 hh.2.1 hh.2.2.2.1
  cases n with
  | zero =>
    left
    refine ⟨-2, ?_, ?_⟩
    · unfold fX4_undo
      rw [if_neg nl, if_pos (show M 2 = 0 from h2)]
    · unfold fX0_undo fX0_isReadyv
      refine (b2_e rfl).trans ?_
      rw [if_pos rfl]
      refine (b1_e hem).trans ?_
      rw [if_pos (by decide)]
  | succ n =>
    right
    have hn := hh.2.1
    obtain ⟨bt, q, cs, eb, eq, hSB, hH⟩ := hh.last
    obtain ⟨v, l1, l2⟩ := dq_last K (t := X 82) hh.2.2.1 hh.2.1 hh.2.2.2.1 eq
    have hH := hH v l2
    have e1 : M 2 - 1 = oN n := by
      rw [h2]
      exact oN_of (sub1N (oNi (by omega)))
    obtain ⟨S, s1, s2⟩ := und31 K (mup M 2 (oN n)) g n (by omega) (mup_s _ _ _) 254 K 0 F (by omega) (by omega)
    obtain ⟨Y, YF, L, q1, q2, q3, q4, hSR, hML, ecs⟩ := hSB
    have hsz := dq_size K (h := X 81) (t := v) (P := va_up (P 19) (((X 81).toInt.toNat + n) % 17) none) hh.2.2.1 (by omega) l2
    have hX4 : fX4_undo K (M, g, F) = some (oN n, (mup M 2 (oN n), g, mup F 0 S)) := by
      unfold fX4_undo
      have nz : ¬ M 2 = 0 := by rw [h2, eq32, oNi (by omega), k32_0]; omega
      rw [if_neg nl, if_neg nz, nmr]
      show fX4_undo_L31 K K 0 (mup M 2 (M 2 - 1), g, F) = _
      rw [e1]
      exact s1
    have hcell : (q, (.inr (8, [.int (Y 60), .int (Y 61), .int (Y 62), .int (Y 63), .ref q3, .ref q4, .int (Y 66), .ref q1]) : va_E)) ∈ tl := by
      refine hp.mem_iff.mpr (List.mem_append_left _ ?_)
      rw [eb, List.flatMap_append]
      refine List.mem_append_right _ ?_
      show _ ∈ cs ++ []
      rw [List.append_nil, ecs]
      exact List.mem_cons_self ..
    have hX0 : fX0_undo K ((X, gx, XF, G, P), tl) = some (oN n, ((mup (mup X 81 (X 81)) 82 v, gx, XF, G, mup (mup P 19 (va_up (P 19) (((X 81).toInt.toNat + n) % 17) none)) 8 (fun _ => some q)), tl)) := by
      unfold fX0_undo fX0_isReadyv
      refine (b2_e rfl).trans ?_
      rw [if_pos rfl]
      refine (b1_e hem).trans ?_
      rw [if_neg (by rw [decide_eq_false (by omega)]; decide)]
      refine (b2_e l1).trans ?_
      rw [nmr]
      refine (gaP_t ⟨_, hcell⟩).trans ?_
      rw [nmr]
      refine (b1_e (v := oN n) ?_).trans rfl
      show fJ2_size K (mup (mup X 81 (X 81)) 82 v 81, mup (mup X 81 (X 81)) 82 v 82, mup (mup P 19 (va_up (P 19) (((X 81).toInt.toNat + n) % 17) none)) 8 (fun _ => some q) 19) = _
      rw [mup_n _ _ (by decide), mup_s, mup_s, mup_n _ _ (by decide), mup_s]
      exact hsz
    refine ⟨oN n, _, _, bst b q q1 q2 q3 q4, ((xst (mup X 82 v) Y, gx, fst XF YF, G, mup (mup P 19 (va_up (P 19) (((X 81).toInt.toNat + n) % 17) none)) 18 L), BO d X XF (P 18) (b 13) (b 17) (b 18) (b 14) (b 15) ++ (bt.flatMap (·.2) ++ rest)), hX4, hX0, ?_, ?_, fun k a1 a2 a3 a4 a5 => ?_⟩
    · have hp2 : tl.Perm ((bt.flatMap (·.2) ++ cs) ++ rest) := by
        rw [eb, List.flatMap_append] at hp
        have : List.flatMap (fun x : Nat × va_W => x.2) [(q, cs)] = cs := by show cs ++ [] = cs; rw [List.append_nil]
        rw [this] at hp
        exact hp
      have hcs : cs.Perm (BO d Y YF L q q1 q2 q3 q4) := by rw [ecs]; exact BO_perm ..
      have := perm_u ((XV d z b (mup (mup X 81 (X 81)) 82 v, gx, XF, G, mup (mup P 19 (va_up (P 19) (((X 81).toInt.toNat + n) % 17) none)) 8 (fun _ => some q))).take 13) (BO d X XF (P 18) (b 13) (b 17) (b 18) (b 14) (b 15)) [(b 16, .inr (17, [.ref (b 19), .int (X 81), .int v])), (b 19, .inl (d 4, 17, .inr (.inr (.inr (.inr (va_up (P 19) (((X 81).toInt.toNat + n) % 17) none))))))] tl (bt.flatMap (·.2)) cs (BO d Y YF L q q1 q2 q3 q4) rest hp2 hcs
      exact this
    · refine ⟨bt, BO d X XF (P 18) (b 13) (b 17) (b 18) (b 14) (b 15) ++ rest, ch, n, CR.mk (hc.t.cg (fun k _ _ => mup_n M _ (by omega)) (fun k _ _ => mup_n F _ (by omega)) (fun k _ _ => ?_) (fun k _ _ => ?_)) ?_ ?_, ?_, (show mup M 2 (oN n) 2 = oN n from mup_s M 2 _), ?_, ?_, ?_, ?_, ?_⟩
      · show xst (mup X 82 v) Y k = X k
        unfold xst
        rw [if_neg (by omega), mup_n _ _ (by omega)]
      · show fst XF YF k = XF k
        unfold fst
        rw [if_neg (by omega)]
      · show SR (mup F 0 S 0) (xst (mup X 82 v) Y) (fst XF YF)
        rw [mup_s]
        refine (hSR.cg (fun k hk => ?_)).cx (fun k _ _ => ?_) (fun k _ _ => ?_)
        · rw [s2 k, if_pos (by omega)]
        · unfold xst; rw [if_pos (by omega)]
        · unfold fst; rw [if_pos (by omega)]
      · show mup M 2 (oN n) 3 = 1
        rw [mup_n _ _ (by decide)]; exact hc.ld
      · show MRl (mup F 0 S 0) (xst (mup X 82 v) Y 72) (mup (mup P 19 (va_up (P 19) (((X 81).toInt.toNat + n) % 17) none)) 18 L 18) _
        rw [mup_s, mup_s]
        refine hML.cg (fun k _ hk => ?_) (fun c hc => List.mem_append_right _ hc)
        rw [s2 k, if_pos (by omega)]
      · show HR d (mup F 0 S 1) n (xst (mup X 82 v) Y 81) (xst (mup X 82 v) Y 82) (mup (mup P 19 (va_up (P 19) (((X 81).toInt.toNat + n) % 17) none)) 18 L 19) _ bt
        rw [mup_n F _ (by decide), mup_n _ _ (show (19 : Nat) ≠ 18 by decide), mup_s]
        have x1 : xst (mup X 82 v) Y 81 = X 81 := by unfold xst; rw [if_neg (by decide), mup_n _ _ (by decide)]
        have x2 : xst (mup X 82 v) Y 82 = v := by unfold xst; rw [if_neg (by decide), mup_s]
        rw [x1, x2]
        exact hH.cg (fun _ _ => rfl) (fun c hc => List.mem_append_right _ hc)
      · exact List.perm_append_comm_assoc _ _ _
      · show CHR (mup M 2 (oN n)) (mup F 0 S) (mup (mup P 19 (va_up (P 19) (((X 81).toInt.toNat + n) % 17) none)) 18 L 6 0) _ ch
        rw [mup_n _ _ (show (6 : Nat) ≠ 18 by decide), mup_n _ _ (show (6 : Nat) ≠ 19 by decide)]
        exact hf.cg (mup_n M _ (by decide)) (mup_n F _ (by decide)) (mup_n F _ (by decide)) (fun c hc => List.mem_append_right _ hc)
      · show xst (mup X 82 v) Y 10 = mup M 2 (oN n) 39
        rw [mup_n M _ (by decide)]
        unfold xst
        rw [if_neg (by decide), mup_n _ _ (by decide)]
        exact h10
      · refine ht.cg (show mup M 2 (oN n) 18 = M 18 from mup_n M _ (by decide)) (show mup M 2 (oN n) 25 = M 25 from mup_n M _ (by decide)) (show mup F 0 S 17 = F 17 from mup_n F _ (by decide)) ?_ ?_ ?_
        · show xst (mup X 82 v) Y 1 = _
          unfold xst
          rw [if_neg (by decide), mup_n _ _ (by decide)]
        · show xst (mup X 82 v) Y 2 = _
          unfold xst
          rw [if_neg (by decide), mup_n _ _ (by decide)]
        · show fst XF YF 1 = _
          unfold fst
          rw [if_neg (by decide)]
    · unfold bst
      rw [if_neg a1, if_neg a2, if_neg a3, if_neg a4, if_neg a5]
end OPS
