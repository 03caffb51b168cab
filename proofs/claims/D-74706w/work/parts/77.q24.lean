/-! plain law: recall, tuneFromMemory, failures asked -/
set_option maxRecDepth 100000
section RC
variable {K : Nat} {d : Nat → ClassId} {M : Nat → Int32} {F : Nat → Nat → Int32} {X : Nat → Int32} {XF : Nat → Nat → Int32} {G : Nat → Nat → Int64} {g gx : Nat → Int64} {P : Nat → Nat → Option Nat} {tl : va_W}
theorem bandV_cg {M M' : Nat → Int32} {F F' : Nat → Nat → Int32} (h14 : M' 14 = M 14) (h15 : F' 15 = F 15) (h16 : F' 16 = F 16) (f : Int32) : bandV M' F' f = bandV M F f := by
  have h : ∀ n k, bdV M' F' f n k = bdV M F f n k := by
    intro n k
    induction k with
    | zero => rfl
    | succ k ih => rw [bdV, bdV, h15, h16, ih]
  unfold bandV
  rw [h14]
  exact h _ _
theorem lmM (hc : CR M F X XF G) (hK : 40 ≤ K) {n : Nat} (hn : n ≤ 1) {a b : Nat → Int32} {ks : List (Nat × Int32)} (hL : LK a b ks) (hl : ks.length = n) : ∃ a' b', fX4_linkMissing K (mup M 44 (oN n), g, Fk F a b) = some (mup M 44 (oN (ks ++ misK M F).length), g, Fk F a' b') ∧ LK a' b' (ks ++ misK M F) := by
  have hcm : CR (mup M 44 (oN (n + 1))) (Fk F (upd a n 5) (upd b n (F 0 0))) X XF G := CR.mk (hc.t.cg (fun k _ _ => mup_n _ _ (by omega)) (fun k _ _ => Fk_o (by omega) (by omega)) (fun _ _ _ => rfl) (fun _ _ _ => rfl)) (by rw [Fk_o (by decide) (by decide)]; exact hc.s) (by rw [mup_n _ _ (by decide)]; exact hc.ld)
  have k1 := linkM K M g F a b (n := n) (by omega) 5 (F 0 0)
  have f00 : Fk F a b 0 0 = F 0 0 := by rw [Fk_o (by decide) (by decide)]
  have f01 : Fk F (upd a n 5) (upd b n (F 0 0)) 0 0 = F 0 0 := by rw [Fk_o (by decide) (by decide)]
  have bM := bandM (g := g) hcm hK (F 0 0)
  have bM : fX4_band K (F 0 0) (mup M 44 (oN (n + 1)), g, Fk F (upd a n 5) (upd b n (F 0 0))) = some (bandV M F (F 0 0), (mup M 44 (oN (n + 1)), g, Fk F (upd a n 5) (upd b n (F 0 0)))) := by
    refine bM.trans ?_
    rw [bandV_cg (M := M) (F := F) (mup_n _ _ (by decide)) (Fk_o (by decide) (by decide)) (Fk_o (by decide) (by decide))]
  have st : fX4_linkMissing K (mup M 44 (oN n), g, Fk F a b) = if 0 ≤ bandV M F (F 0 0) then some (mup M 44 (oN (n + 1)), g, Fk F (upd a n 5) (upd b n (F 0 0))) else some (mup M 44 (oN (n + 2)), g, Fk F (upd (upd a n 5) (n + 1) 6) (upd (upd b n (F 0 0)) (n + 1) 0)) := by
    unfold fX4_linkMissing
    refine (ga_t ⟨by decide, by decide⟩).trans ?_
    refine (b1_e (v := (mup M 44 (oN (n + 1)), g, Fk F (upd a n 5) (upd b n (F 0 0)))) (by show fX4_link K 5 (Fk F a b 0 0) _ = _; rw [f00]; exact k1)).trans ?_
    refine (ga_t ⟨by decide, by decide⟩).trans ?_
    refine (b2_e (v := bandV M F (F 0 0)) (w := (mup M 44 (oN (n + 1)), g, Fk F (upd a n 5) (upd b n (F 0 0)))) (by show fX4_band K (Fk F (upd a n 5) (upd b n (F 0 0)) 0 0) _ = _; rw [f01]; exact bM)).trans ?_
    by_cases c : 0 ≤ bandV M F (F 0 0)
    · rw [if_pos c, if_pos c]
    · rw [if_neg c, if_neg c]
      exact (b1_e (linkM K M g F _ _ (n := n + 1) (by omega) 6 0)).trans rfl
  have L1 := hL.add 14 (F 0 0) hl
  have hl1 : (ks ++ [(14, F 0 0)]).length = n + 1 := by rw [List.length_append, hl]; rfl
  have L2 := L1.add 15 0 hl1
  rw [st]
  by_cases c : 0 ≤ bandV M F (F 0 0)
  · have em : misK M F = [(14, F 0 0)] := by unfold misK; rw [if_pos c]
    rw [if_pos c, em, hl1]
    exact ⟨_, _, rfl, L1⟩
  · have em : ks ++ misK M F = ks ++ [(14, F 0 0)] ++ [(15, 0)] := by unfold misK; rw [if_neg c, List.append_assoc]; rfl
    have hl2 : (ks ++ [(14, F 0 0)] ++ [(15, (0 : Int32))]).length = n + 2 := by rw [List.length_append, hl1]; rfl
    rw [if_neg c, em, hl2]
    exact ⟨_, _, rfl, L2⟩
theorem misK_len (M : Nat → Int32) (F : Nat → Nat → Int32) : (misK M F).length ≤ 2 := by
  unfold misK
  split
  · exact Nat.le_of_ble_eq_true rfl
  · exact Nat.le_of_ble_eq_true rfl
theorem q_recall (h : FR d M F X XF G P tl) (hnd : NDt tl) (hK : 9000 ≤ K) : OK d (fX4_recall K (M, g, F)) (fun u => fX0_recall K d u ((X, gx, XF, G, P), tl)) := by
  have nl := h.ld.nl
  have hM0 : ∀ n : Int32, ∀ k, k < 39 → mup M 44 n k = M k := fun n k hk => mup_n _ _ (by omega)
  have h10 : X 10 = M 39 := by
    obtain ⟨bl, rest, ch, n, hc, hm, h2, hh, hp, hf, h10, ht⟩ := h
    exact h10
  rcases suB_all (g := g) (gx := gx) h hnd (show 60 ≤ K by omega) with ⟨m1, x1⟩ | ⟨p, n, hp, hn, h205, m1, x1⟩
  · obtain ⟨a, b, l1, l2⟩ := lmM (g := g) (F := F) h.ld (show 40 ≤ K by omega) (n := 0) (a := F 45) (b := F 46) (ks := []) (by omega) (fun i c hi => by cases hi) rfl
    rw [Fk_0, List.nil_append] at l1
    rw [List.nil_append] at l2
    refine OK.ofU (r := -2) (μ' := (mup M 44 (oN (misK M F).length), g, Fk F a b)) ?_ (fun u => ?_)
    · unfold fX4_recall
      rw [if_neg nl]
      refine (b2_e m1).trans ?_
      rw [nmr, if_neg (by decide)]
      exact (b1_e (show fX4_linkMissing K (mup M 44 (oN 0), g, F) = _ from l1)).trans rfl
    · obtain ⟨q, nw, ch, y1, y2, y3⟩ := x1 (ue u)
      refine ⟨((X, gx, XF, G, mup P 6 (fun _ => some q)), nw ++ tl), ?_, ?_⟩
      · unfold fX0_recall
        refine (b2_e (readyX K _)).trans ?_
        rw [nmr, if_pos rfl, xmrg_r]
        refine (b3u_l y1).trans ?_
        rw [if_pos rfl]
        rfl
      · exact h.fail (hM0 _) (fun k h1 h2 => Fk_o h1 h2) (fun _ _ _ _ _ => rfl) h10 (l2.chr (by have := misK_len M F; omega) y2 y3)
  · obtain ⟨n', g1, g2, g3, g4, g5, g6⟩ := h.mem
    have hnn : n' = n := by
      have : (oN n').toInt = (oN n).toInt := by rw [← g1, ← h205]
      rw [oNi (by omega), oNi (by omega)] at this
      omega
    subst hnn
    obtain ⟨q, hq, he⟩ := g4 p hp
    have hst := (g6 p hp).2
    have hf0 := h.fail (M' := mup M 44 0) (X' := X) (F' := F) (fl := fun _ => none) (nw := []) (ch := []) (hM0 0) (fun _ _ _ => rfl) (fun _ _ _ _ _ => rfl) (by rw [mup_n _ _ (by decide)]; exact h10) ⟨rfl, mup_s _ _ _, by decide, fun i c hi => by cases hi⟩
    obtain ⟨M1, F1, X1, P1, tl1, a1, a2, a3⟩ := remB hf0 (show 4000 ≤ K by omega) g gx
    obtain ⟨r1, r2, r3, r4, r5⟩ := a3 (fun _ => 0)
    have e0 : F1 0 = F 0 := r3 0 (by decide)
    have ep : (oN p).toInt = p := oNi (by omega)
    have o1 : 222 + p < 254 := by omega
    have o2 : 222 + p < 2147483648 := by omega
    have p0 : (0 : Int32) ≤ oN p := by rw [le32, ep, k32_0]; omega
    have w1 : (X 72).toInt ≤ 16 := by rw [g3, oNi (by omega)]; omega
    have w2 : (p : Int) < (X 72).toInt := by rw [g3, oNi (by omega)]; omega
    have e5 : (222 + oN p : Int32).toInt = (222 + p : Nat) := addN k32_222 ep o2
    refine OK.ofU (r := oN p) (μ' := (M1, g, mup F1 0 (chS (F1 0) 1 (F 0 (222 + p))))) ?_ (fun u => ?_)
    · unfold fX4_recall
      rw [if_neg nl]
      refine (b2_e m1).trans ?_
      rw [nmr, if_pos p0]
      refine (b1_e (show fX4_remember K (mup M 44 0, g, F) = _ from a1)).trans ?_
      refine (ga_t (ixN e5 o1)).trans ?_
      refine (b1_e (v := (M1, g, mup F1 0 (chS (F1 0) 1 (F 0 (222 + p))))) ?_).trans rfl
      show fX4_change K 1 (F1 0 (222 + oN p : Int32).toNatClampNeg) (M1, g, F1) = _
      rw [nnN e5, e0]
      have := chM1 K (F 0 (222 + p)) M1 g F1
      rw [e0] at this
      exact this
    · have ru := a3 (ue (ue (uo u)))
      refine ⟨((chX X1 61 (F 0 (222 + p)), gx, XF, G, P1 (ue (ue (uo u)))), tl1 (ue (ue (uo u)))), ?_, ?_⟩
      · unfold fX0_recall
        refine (b2_e (readyX K _)).trans ?_
        rw [nmr, if_pos rfl, xmrg_r]
        refine (b3u_r (x1 (ue u))).trans ?_
        rw [nmr]
        refine (b1_e (jget K (mc := X 70) w1 w2 hq)).trans ?_
        refine (b1_e (entOf_of hnd he)).trans ?_
        refine (b1_e (v := (sdO (F 0 (222 + p)), coO (F 0 (222 + p)), caO (F 0 (222 + p)))) rfl).trans ?_
        unfold b1u
        exact (b1_e (changeX K _ _ _ (F 0 (222 + p)) (code_parts hst) (ue (uo u)) (a2 (ue (ue (uo u)))))).trans rfl
      · exact ru.1.st (ru.1.ld.s.ch1 hst) (fun k h1 h2 => chS_o (Or.inr rfl) (by omega)) (fun k h1 h2 => chX_o (Or.inr rfl) (by omega)) (fun _ _ _ => rfl)
theorem q_tuneFromMemory (h : FR d M F X XF G P tl) (hnd : NDt tl) (hK : 9000 ≤ K) : OK d (fX4_tuneFromMemory K (M, g, F)) (fun u => fX0_tuneFromMemory K d u ((X, gx, XF, G, P), tl)) := by
  have nl := h.ld.nl
  have hM0 : ∀ n : Int32, ∀ k, k < 39 → mup M 44 n k = M k := fun n k hk => mup_n _ _ (by omega)
  have h10 : X 10 = M 39 := by
    obtain ⟨bl, rest, ch, n, hc, hm, h2, hh, hp, hf, h10, ht⟩ := h
    exact h10
  rcases suB_all (g := g) (gx := gx) h hnd (show 60 ≤ K by omega) with ⟨m1, x1⟩ | ⟨p, n, hp, hn, h205, m1, x1⟩
  · obtain ⟨a, b, l1, l2⟩ := lmM (g := g) (F := F) h.ld (show 40 ≤ K by omega) (n := 1) (a := upd (F 45) 0 1) (b := upd (F 46) 0 0) (ks := [(11, 0)]) (by omega) (LK1 (F 45) (F 46) 11 0) rfl
    refine OK.ofU (r := -2) (μ' := (mup M 44 (oN ([(11, 0)] ++ misK M F).length), g, Fk F a b)) ?_ (fun u => ?_)
    · unfold fX4_tuneFromMemory
      rw [if_neg nl]
      refine (b2_e m1).trans ?_
      rw [if_neg (by decide), nmr]
      refine (b1_e (show fX4_link K 1 0 (mup M 44 0, g, F) = _ from link1 K M g F 1 0)).trans ?_
      exact (b1_e l1).trans rfl
    · obtain ⟨q, nw, ch, y1, y2, y3⟩ := x1 (ue u)
      refine ⟨((X, gx, XF, G, mup P 6 (fun _ => some (uo u 0))), [fcell (uo u 0) 11 0 (some q)] ++ nw ++ tl), ?_, ?_⟩
      · unfold fX0_tuneFromMemory
        refine (b2_e (readyX K _)).trans ?_
        rw [nmr, if_pos rfl, xmrg_r]
        refine (b3u_l y1).trans ?_
        rw [if_pos rfl]
        unfold ask
        rw [List.append_assoc]
        rfl
      · refine h.fail (hM0 _) (fun k h1 h2 => Fk_o h1 h2) (fun _ _ _ _ _ => rfl) h10 (l2.chr (ch := (uo u 0, 11, 0) :: ch) ?_ (y2.cons _ 11 0 (by decide)) ?_)
        · have := misK_len M F
          rw [List.length_append]
          show 1 + _ ≤ 3
          omega
        · rw [List.map_cons, y3]
          rfl
  · obtain ⟨n', g1, g2, g3, g4, g5, g6⟩ := h.mem
    have hnn : n' = n := by
      have : (oN n').toInt = (oN n).toInt := by rw [← g1, ← h205]
      rw [oNi (by omega), oNi (by omega)] at this
      omega
    subst hnn
    obtain ⟨q, hq, he⟩ := g4 p hp
    have hst := (g6 p hp).2
    have ep : (oN p).toInt = p := oNi (by omega)
    have o1 : 222 + p < 254 := by omega
    have o2 : 222 + p < 2147483648 := by omega
    have p0 : (0 : Int32) ≤ oN p := by rw [le32, ep, k32_0]; omega
    have w1 : (X 72).toInt ≤ 16 := by rw [g3, oNi (by omega)]; omega
    have w2 : (p : Int) < (X 72).toInt := by rw [g3, oNi (by omega)]; omega
    obtain ⟨ga', ra⟩ := ratioM (g := g) h.ld.t (show 40 ≤ K by omega) hst h.ld.s.v_fq
    obtain ⟨gb, rb⟩ := ratioM (g := ga') h.ld.t (show 40 ≤ K by omega) (s := 0) (by decide) h.ld.s.v_fq
    obtain ⟨X2, gx2, xa, xa2, -⟩ := swrBy' (gx := gx) (P := P) h.ld (show 40 ≤ K by omega) hst
    have h2 := h.scr xa2
    obtain ⟨X3, gx3, xb, xb2, -⟩ := swrBy' (gx := gx2) (P := P) h2.ld (show 40 ≤ K by omega) (s := 0) (by decide)
    have h3 := h2.scr xb2
    have e5 : (222 + oN p : Int32).toInt = (222 + p : Nat) := addN k32_222 ep o2
    have stM : fX4_tuneFromMemory K (M, g, F) = if swV M F 0 (F 0 0) < swV M F (F 0 (222 + p)) (F 0 0) then fX4_finish K 0 (M, gb, F) else fX4_finish K (F 0 (222 + p)) (M, gb, F) := by
      unfold fX4_tuneFromMemory
      rw [if_neg nl]
      refine (b2_e m1).trans ?_
      rw [if_pos p0]
      refine (ga_t (ixN e5 o1)).trans ?_
      rw [nmr]
      refine (ga_t ⟨by decide, by decide⟩).trans ?_
      show b2 (fX4_ratio K (F 0 (222 + oN p : Int32).toNatClampNeg) (F 0 0) (M, g, F)) _ = _
      rw [nnN e5]
      refine (b2_e ra).trans ?_
      refine (ga_t ⟨by decide, by decide⟩).trans ?_
      refine (b2_e (show fX4_ratio K 0 (F 0 0) (M, ga', F) = _ from rb)).trans ?_
      unfold fX4_tuneFromMemory_L77
      by_cases c : swV M F 0 (F 0 0) < swV M F (F 0 (222 + p)) (F 0 0)
      · rw [if_pos c, if_pos c, if_pos rfl]
        exact b2_id _
      · rw [if_neg c, if_neg c, if_neg (by decide)]
        exact b2_id _
    have stX : ∀ u, fX0_tuneFromMemory K d u ((X, gx, XF, G, P), tl) = if swV M F 0 (F 0 0) < swV M F (F 0 (222 + p)) (F 0 0) then fX0_searchFrom K d 0 (ue (uo u)) ((X3, gx3, XF, G, P), tl) else fX0_searchFrom K d (F 0 (222 + p)) (ue (uo u)) ((X3, gx3, XF, G, P), tl) := by
      intro u
      unfold fX0_tuneFromMemory
      refine (b2_e (readyX K _)).trans ?_
      rw [nmr, if_pos rfl, xmrg_r]
      refine (b3u_r (x1 (ue u))).trans ?_
      refine (b1_e (jget K (mc := X 70) w1 w2 hq)).trans ?_
      refine (b1_e (entOf_of hnd he)).trans ?_
      refine (b2_e xa).trans ?_
      rw [nmr]
      have x2 : xmrg (X, gx, XF, G, P) (X2, gx2, XF, G, P) = (X2, gx2, XF, G, P) := xmrg_e (fun k hk => xa2 k (by omega))
      rw [x2]
      refine (b2_e xb).trans ?_
      rw [nmr]
      have x3 : xmrg (X2, gx2, XF, G, P) (X3, gx3, XF, G, P) = (X3, gx3, XF, G, P) := xmrg_e (fun k hk => xb2 k (by omega))
      rw [x3]
      unfold b2u
      by_cases c : swV M F 0 (F 0 0) < swV M F (F 0 (222 + p)) (F 0 0)
      · rw [if_pos c, if_pos c]
        exact b2_id _
      · rw [if_neg c, if_neg c]
        exact b2_id _
    by_cases c : swV M F 0 (F 0 0) < swV M F (F 0 (222 + p)) (F 0 0)
    · refine (sf (g := gb) (gx := gx3) h3 hK (s := 0) (by decide)).up (by rw [stM, if_pos c]) (fun u => ⟨ue (uo u), ?_⟩)
      show fX0_tuneFromMemory K d u ((X, gx, XF, G, P), tl) = _
      rw [stX u, if_pos c]
    · refine (sf (g := gb) (gx := gx3) h3 hK (s := F 0 (222 + p)) hst).up (by rw [stM, if_neg c]) (fun u => ⟨ue (uo u), ?_⟩)
      show fX0_tuneFromMemory K d u ((X, gx, XF, G, P), tl) = _
      rw [stX u, if_neg c]
/-- a chain's addresses differ -/
theorem Cn0.none_of {tl : va_W} (hnd : NDt tl) {a : Nat} {ci : Nat} {v : Int32} (he : (a, (.inr (ci, [.int v, va_rf (some a), .null, .null, .null, .null, .int 0]) : va_E)) ∈ tl) : ∀ (t : List (Nat × Nat × Int32)), ¬ Cn0 tl t (some a)
  | [], h => by cases h
  | x :: t, ⟨h1, h2, nx, h3, h4⟩ => by
    have e1 : a = x.1 := Option.some.inj h1
    rw [← e1] at h3
    have := nd_eq hnd he h3
    injection this with this
    injection this with _ this
    injection this with _ this
    injection this with this _
    have e2 : nx = some a := by
      cases nx with
      | none => cases this
      | some y =>
        injection this with this
        rw [this]
    rw [e2] at h4
    exact Cn0.none_of hnd he t h4
theorem Cn0.up {tl : va_W} (hnd : NDt tl) : ∀ {ch : List (Nat × Nat × Int32)} {fl : Option Nat}, Cn0 tl ch fl → Chn tl ch fl
  | [], _, h => h
  | x :: t, _, ⟨h1, h2, nx, h3, h4⟩ => ⟨h1, h2, nx, h3, fun e => by
      rw [e] at h3 h4
      exact Cn0.none_of hnd h3 t h4, Cn0.up hnd h4⟩
theorem FR.chain (h : FR d M F X XF G P tl) (hnd : NDt tl) : ∃ ch, Chn tl ch (P 6 0) ∧ ch.length ≤ 3 ∧ (∀ x ∈ ch, ∃ fs, 10 ≤ x.2.1 ∧ x.2.1 ≤ 15 ∧ (x.1, (.inr (x.2.1, fs) : va_E)) ∈ tl) ∧ fX4_failureDepth K (M, g, F) = some (Int32.ofNat ch.length, (M, g, F)) ∧ (∀ i, fX4_failureKind K i (M, g, F) = some (((lnk ch i).map (fun x => knd x.2.1)).getD (-1), (M, g, F))) ∧ ∀ i, fX4_failureValue K i (M, g, F) = some (((lnk ch i).map (fun x => x.2.2)).getD (-1), (M, g, F)) := by
  have nl := h.ld.nl
  obtain ⟨bl, rest, ch, n, hc, hm, h2, hh, hp, hf, h10, ht⟩ := h
  obtain ⟨c1, c2, c3, c4⟩ := hf
  have c1' := c1.sub (subP hp)
  have hmem : ∀ (ch : List (Nat × Nat × Int32)) (fl : Option Nat), Cn0 tl ch fl → ∀ x ∈ ch, ∃ fs, 10 ≤ x.2.1 ∧ x.2.1 ≤ 15 ∧ (x.1, (.inr (x.2.1, fs) : va_E)) ∈ tl := by
    intro ch
    induction ch with
    | nil => intro fl _ x hx; cases hx
    | cons y t ih =>
      intro fl hcn x hx
      obtain ⟨_, h2, nx, h3, h4⟩ := hcn
      rcases List.mem_cons.mp hx with e | e
      · subst e; exact ⟨_, h2.1, h2.2, h3⟩
      · exact ih nx h4 x e
  have en : (oN ch.length).toInt = ch.length := oNi (by omega)
  have e1 : (oN ch.length - 1).toInt = ch.length - 1 := by rw [s32, en, k32_1] <;> (try rw [en, k32_1]) <;> omega
  have hin : ∀ i : Int32, fX4_isIn K i.toInt64 0 (M 44 - 1).toInt64 = some (decide (0 ≤ i.toInt ∧ i.toInt < ch.length)) := by
    intro i
    rw [c2, isInM, w64, w64, e1]
    congr 1
    rw [decide_eq_decide]
    show (0 : Int) ≤ _ ∧ _ ↔ _
    clear e1
    omega
  clear e1
  have hlk : ∀ i : Int32, (0 ≤ i.toInt ∧ i.toInt < ch.length) → ∃ c, ch[i.toNatClampNeg]? = some c ∧ lnk ch i = some c ∧ i.toNatClampNeg < 3 := by
    intro i hi
    have hn := nn32 hi.1
    have hlt : i.toNatClampNeg < ch.length := by omega
    refine ⟨ch[i.toNatClampNeg], List.getElem?_eq_getElem hlt, ?_, by omega⟩
    unfold lnk
    rw [if_neg (by omega)]
    exact List.getElem?_eq_getElem hlt
  have hno : ∀ i : Int32, ¬ (0 ≤ i.toInt ∧ i.toInt < ch.length) → lnk ch i = none := by
    intro i hi
    unfold lnk
    by_cases c : i.toInt < 0
    · rw [if_pos c]
    · rw [if_neg c]
      have hn := nn32 (a := i) (by omega)
      exact List.getElem?_eq_none (by omega)
  refine ⟨ch, c1'.up hnd, c3, hmem ch _ c1', ?_, fun i => ?_, fun i => ?_⟩
  · unfold fX4_failureDepth
    rw [if_neg nl]
    show some (M 44, _) = _
    rw [c2]
  · unfold fX4_failureKind
    rw [if_neg nl]
    refine (b1_e (hin i)).trans ?_
    by_cases c : 0 ≤ i.toInt ∧ i.toInt < ch.length
    · obtain ⟨x, x1, x2, x3⟩ := hlk i c
      rw [if_pos (decide_eq_true c), x2]
      have hn := nn32 c.1
      refine (ga_t (show ix i 3 from ⟨c.1, by omega⟩)).trans ?_
      show some (F 45 i.toNatClampNeg, _) = _
      rw [(c4 _ _ x1).1]
      rfl
    · rw [if_neg (by rw [decide_eq_false c]; decide), hno i c]
      rfl
  · unfold fX4_failureValue
    rw [if_neg nl]
    refine (b1_e (hin i)).trans ?_
    by_cases c : 0 ≤ i.toInt ∧ i.toInt < ch.length
    · obtain ⟨x, x1, x2, x3⟩ := hlk i c
      rw [if_pos (decide_eq_true c), x2]
      have hn := nn32 c.1
      refine (ga_t (show ix i 3 from ⟨c.1, by omega⟩)).trans ?_
      show some (F 46 i.toNatClampNeg, _) = _
      rw [(c4 _ _ x1).2]
      rfl
    · rw [if_neg (by rw [decide_eq_false c]; decide), hno i c]
      rfl
end RC
