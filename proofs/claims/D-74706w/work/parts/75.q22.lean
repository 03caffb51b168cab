/-! plain law: tune, tuneCold -/
set_option maxRecDepth 100000
section SF
variable {K : Nat} {d : Nat → ClassId} {M : Nat → Int32} {F : Nat → Nat → Int32} {X : Nat → Int32} {XF : Nat → Nat → Int32} {G : Nat → Nat → Int64} {g gx : Nat → Int64} {P : Nat → Nat → Option Nat} {tl : va_W}
theorem FR.fail (h : FR d M F X XF G P tl) {M' X' : Nat → Int32} {F' : Nat → Nat → Int32} {fl : Nat → Option Nat} {nw : va_W} {ch : List (Nat × Nat × Int32)} (hM : ∀ k, k < 39 → M' k = M k) (hF : ∀ k, k ≠ 45 → k ≠ 46 → F' k = F k) (hX : ∀ k, k ≠ 20 → k ≠ 90 → k ≠ 91 → k ≠ 10 → X' k = X k) (h10 : X' 10 = M' 39) (hch : CHR M' F' (fl 0) nw ch) : FR d M' F' X' XF G (mup P 6 fl) (nw ++ tl) := by
  obtain ⟨bl, rest, ch0, n, hc, hm, h2, hh, hp, hf, _, ht⟩ := h
  have hr : ∀ c ∈ rest, c ∈ nw ++ rest := fun c hc => List.mem_append_right _ hc
  have f0 : F' 0 = F 0 := hF 0 (by decide) (by decide)
  refine ⟨bl, nw ++ rest, ch, n, CR.mk (hc.t.cg (fun k _ _ => hM k (by omega)) (fun k _ _ => hF k (by omega) (by omega)) (fun k _ _ => hX k (by omega) (by omega) (by omega) (by omega)) (fun _ _ _ => rfl)) ?_ ?_, ?_, ?_, ?_, ?_, ?_, h10, ?_⟩
  · rw [f0]
    exact hc.s.cx (fun k _ _ => hX k (by omega) (by omega) (by omega) (by omega)) (fun _ _ _ => rfl)
  · rw [hM 3 (by omega)]; exact hc.ld
  · rw [f0, hX 72 (by decide) (by decide) (by decide) (by decide), mup_n P _ (by decide)]
    exact hm.cg (fun _ _ _ => rfl) hr
  · rw [hM 2 (by omega)]; exact h2
  · rw [hF 1 (by decide) (by decide), hX 81 (by decide) (by decide) (by decide) (by decide), hX 82 (by decide) (by decide) (by decide) (by decide), mup_n P _ (by decide)]
    exact hh.cg (fun _ _ => rfl) hr
  · exact (List.Perm.append_left nw hp).trans (List.perm_append_comm_assoc nw _ rest)
  · rw [mup_s]
    obtain ⟨c1, c2, c3, c4⟩ := hch
    exact ⟨c1.sub (fun c hc => List.mem_append_left _ hc), c2, c3, c4⟩
  · exact ht.cg (hM 18 (by omega)) (hM 25 (by omega)) (hF 17 (by decide) (by decide)) (hX 1 (by decide) (by decide) (by decide) (by decide)) (hX 2 (by decide) (by decide) (by decide) (by decide)) rfl
theorem LK.chr {M' : Nat → Int32} {F : Nat → Nat → Int32} {a b : Nat → Int32} {ks : List (Nat × Int32)} {nw : va_W} {ch : List (Nat × Nat × Int32)} {q : Option Nat} (h : LK a b ks) (h3 : ks.length ≤ 3) (hc : Cn0 nw ch q) (he : ch.map (·.2) = ks) : CHR (mup M' 44 (oN ks.length)) (Fk F a b) q nw ch := by
  have hl : ch.length = ks.length := by rw [← he, List.length_map]
  refine ⟨hc, by rw [mup_s, hl], by omega, fun i c hi => ?_⟩
  have : ks[i]? = some c.2 := by rw [← he, List.getElem?_map, hi]; rfl
  obtain ⟨x, y⟩ := h i c.2 this
  unfold Fk
  rw [mup_n _ _ (show (45 : Nat) ≠ 46 by decide), mup_s, mup_s]
  exact ⟨x, y⟩
/-- the search at X, before the check -/
theorem sf_pre {s : Int32} {now : T3} {X' : Nat → Int32} {gx' : Nat → Int64} {ev : Int32} (hi : fX9_init K s (X, gx, XF, G, P) = some (now, (X', gx', XF, G, P))) (hx : ∀ k, k ≠ 20 → k ≠ 90 → k ≠ 91 → X' k = X k) (h91 : X' 91 = ev) (u : UU) : fX0_searchFrom K d s u ((X, gx, XF, G, P), tl) = b3u u (fun u => fX9_check K d (now.1, now.2.1, now.2.2) u ((mup X' 10 ev, gx', XF, G, P), tl)) (fun c_12 q_13 ζ_14 u => if c_12 = 11 then nm ((xP ζ_14.1 6 (fun _ => some q_13), ζ_14.2)) fun ζ_16 => some ((-3 : Int32), ζ_16) else none) fun _ ζ_17 u => nm ((xP ζ_17.1 6 (fun _ => none), ζ_17.2)) fun ζ_19 => b1u u (fun u => fX0_change K d (now.1, now.2.1, now.2.2) u ζ_19) fun ζ_22 u => some (ζ_19.1.1 90, ζ_22) := by
  unfold fX0_searchFrom
  refine (b2_e hi).trans ?_
  rw [nmr, xmrgS_e (fun k h1 h2 => hx k (by omega) (by omega) (by omega)), nmr]
  show b3u u (fun u => fX9_check K d (now.1, now.2.1, now.2.2) u ((mup X' 10 (X' 91), gx', XF, G, P), tl)) _ _ = _
  rw [h91]
theorem sf (h : FR d M F X XF G P tl) (hK : 9000 ≤ K) {s : Int32} (hs : 0 ≤ s.toInt ∧ s.toInt ≤ 8191) : OK d (fX4_finish K s (M, g, F)) (fun u => fX0_searchFrom K d s u ((X, gx, XF, G, P), tl)) := by
  have hc := h.ld
  obtain ⟨now, ev, fr, cd, cr, g', X', gx', s1, s2, s3, s4, s5, s6, s7⟩ := searchB (g := g) (gx := gx) (P := P) hc hK hs
  have pre := sf_pre (d := d) (tl := tl) s2 s7 s6
  have hx7 : ∀ k, k ≠ 20 → k ≠ 90 → k ≠ 91 → k ≠ 10 → mup X' 10 ev k = X k := fun k h1 h2 h3 h4 => by rw [mup_n _ _ h4]; exact s7 k h1 h2 h3
  have hc7 : CR M F (mup X' 10 ev) XF G := CR.mk (hc.t.cg (fun _ _ _ => rfl) (fun _ _ _ => rfl) (fun k _ _ => hx7 k (by omega) (by omega) (by omega) (by omega)) (fun _ _ _ => rfl)) (hc.s.cx (fun k _ _ => hx7 k (by omega) (by omega) (by omega) (by omega)) (fun _ _ _ => rfl)) hc.ld
  have h790 : mup X' 10 ev 90 = fr := by rw [mup_n _ _ (by decide)]; exact s5
  have hMz : ∀ n : Int32, ∀ k, k < 39 → mup (S5 M ev (code3 now) fr cd cr) 44 n k = M k := fun n k hk => by rw [mup_n _ _ (by omega), S5_lo (Or.inl hk)]
  -- a failure
  have hfail : ∀ ks : List (Nat × Int32), ks.length ≤ 3 → MFail (S5 M ev (code3 now) fr cd cr) F (fX4_finish K s (M, g, F)) ks (-3) → XFail (fun u => fX9_check K d (now.1, now.2.1, now.2.2) u ((mup X' 10 ev, gx', XF, G, P), tl)) ks (mup X' 10 ev) XF G P tl → OK d (fX4_finish K s (M, g, F)) (fun u => fX0_searchFrom K d s u ((X, gx, XF, G, P), tl)) := by
    intro ks h3 hm hx
    obtain ⟨g2, a, b, m1, m2⟩ := hm
    refine OK.ofU (r := -3) m1 (fun u => ?_)
    obtain ⟨q, nw, X2, gx2, ch, x1, x2, x3, x4⟩ := hx (ue u)
    refine ⟨((X2, gx2, XF, G, mup P 6 (fun _ => some q)), nw ++ tl), ?_, ?_⟩
    · rw [pre u]
      refine (b3u_l x1).trans ?_
      rw [if_pos rfl, nmr]
      rfl
    · refine h.fail (hMz _) (fun k h1 h2 => Fk_o h1 h2) (fun k h1 h2 h3 h4 => (x4 k h1).trans (hx7 k h1 h2 h3 h4)) ?_ (m2.chr h3 x2 x3)
      show X2 10 = mup (S5 M ev (code3 now) fr cd cr) 44 (oN ks.length) 39
      rw [x4 10 (by decide), mup_s]
      rfl
  by_cases c1 : fr ≤ M 9
  · by_cases c2 : ovV M F (code3 now) (F 0 0) = true
    · refine hfail _ ?_ (fin_over hc (by omega) s3 s1 c1 c2) (chk_over hc7 (by omega) s3 h790 c1 c2)
      split
      · exact Nat.le_of_ble_eq_true rfl
      · exact Nat.le_of_ble_eq_true rfl
    · have c2 : ovV M F (code3 now) (F 0 0) = false := by
        rw [← Bool.not_eq_true]; exact c2
      obtain ⟨g1, m1⟩ := fin_ok (g0 := g) hc (show 40 ≤ K by omega) s3 s1 c1 c2
      obtain ⟨X2, gx2, x2, x1⟩ := chk_ok (d := d) (gx := gx') (P := P) (tl := tl) hc7 (show 40 ≤ K by omega) s3 h790 c1 c2
      have hf0 := h.fail (M' := mup (S5 M ev (code3 now) fr cd cr) 44 0) (X' := X2) (F' := F) (fl := fun _ => none) (nw := []) (ch := []) (hMz 0) (fun _ _ _ => rfl) (fun k h1 h2 h3 h4 => by rw [x2 k h1]; exact hx7 k h1 h2 h3 h4) (by rw [x2 10 (by decide), mup_s]; rfl) ⟨rfl, rfl, by decide, fun i c hi => by cases hi⟩
      obtain ⟨M1, F1, X1, P1, tl1, a1, a2, a3⟩ := remB hf0 (show 4000 ≤ K by omega) g1 gx2
      obtain ⟨r1, r2, r3, r4, r5⟩ := a3 (fun _ => 0)
      have e40 : M1 40 = code3 now := by rw [r2 40 (by decide)]; rfl
      have e41 : M1 41 = fr := by rw [r2 41 (by decide)]; rfl
      have e90 : X2 90 = fr := by rw [x2 90 (by decide)]; exact h790
      refine OK.ofU (r := fr) (μ' := (M1, g1, mup F1 0 (chS (F1 0) 1 (code3 now)))) ?_ (fun u => ?_)
      · rw [m1]
        refine (b1_e a1).trans ?_
        show b1 (fX4_change K 1 (M1 40) (M1, g1, F1)) _ = _
        rw [e40]
        refine (b1_e (chM1 K _ M1 g1 F1)).trans ?_
        show some (M1 41, _) = _
        rw [e41]
      · have ru := a3 (ue (ue (uo u)))
        refine ⟨((chX X1 61 (code3 now), gx2, XF, G, P1 (ue (ue (uo u)))), tl1 (ue (ue (uo u)))), ?_, ?_⟩
        · rw [pre u]
          refine (b3u_r (x1 (ue u))).trans ?_
          rw [nmr]
          unfold b1u
          refine (b1_e (changeX K now.1 now.2.1 now.2.2 (code3 now) rfl (ue (uo u)) (a2 (ue (ue (uo u)))))).trans ?_
          show some (X2 90, _) = _
          rw [e90]
        · exact ru.1.st (ru.1.ld.s.ch1 (ok3_b s3)) (fun k h1 h2 => chS_o (Or.inr rfl) (by omega)) (fun k h1 h2 => chX_o (Or.inr rfl) (by omega)) (fun _ _ _ => rfl)
  · refine hfail _ ?_ (fin_bad s3 s1 c1) (chk_bad hc7.t.gsw h790 c1)
    split
    · exact Nat.le_of_ble_eq_true rfl
    · split
      · exact Nat.le_of_ble_eq_true rfl
      · exact Nat.le_of_ble_eq_true rfl
theorem OK.up {α : Type} {fa fa' : Option (α × MS)} {fb fb' : UU → Option (α × XT)} (h : OK d fa fb) (e1 : fa' = fa) (e2 : ∀ u, ∃ v, fb' u = fb v) : OK d fa' fb' := by
  obtain ⟨r, μ', y, h1, h2, h3⟩ := h
  refine OK.ofU (r := r) (μ' := μ') (e1.trans h1) (fun u => ?_)
  obtain ⟨v, hv⟩ := e2 u
  exact ⟨y v, hv.trans (h2 v), h3 v⟩
theorem b2_id {α β : Type} (x : Option (α × β)) : b2 x (fun r μ => some (r, μ)) = x := by
  cases x with
  | none => rfl
  | some p => rfl
theorem q_tune (h : FR d M F X XF G P tl) (hK : 9000 ≤ K) : OK d (fX4_tune K (M, g, F)) (fun u => fX0_tune K d u ((X, gx, XF, G, P), tl)) := by
  have nl := h.ld.nl
  refine (sf (g := g) (gx := gx) h hK (s := F 0 1) h.ld.s.v_st).up ?_ (fun u => ⟨ue u, ?_⟩)
  · unfold fX4_tune
    rw [if_neg nl]
    refine (ga_t ⟨by decide, by decide⟩).trans ?_
    exact b2_id _
  · unfold fX0_tune
    refine (b2_e (readyX K _)).trans ?_
    rw [nmr, if_pos rfl, xmrg_r]
    unfold b2u
    show b2 (fX0_searchFrom K d (X 61) (ue u) ((X, gx, XF, G, P), tl)) (fun r μ => some (r, μ)) = _
    rw [h.ld.s.st]
    exact b2_id _
theorem q_tuneCold (h : FR d M F X XF G P tl) (hK : 9000 ≤ K) : OK d (fX4_tuneCold K (M, g, F)) (fun u => fX0_tuneCold K d u ((X, gx, XF, G, P), tl)) := by
  have nl := h.ld.nl
  refine (sf (g := g) (gx := gx) h hK (s := 0) (by decide)).up ?_ (fun u => ⟨ue u, ?_⟩)
  · unfold fX4_tuneCold
    rw [if_neg nl]
    exact b2_id _
  · unfold fX0_tuneCold
    refine (b2_e (readyX K _)).trans ?_
    rw [nmr, if_pos rfl, xmrg_r]
    unfold b2u
    exact b2_id _
end SF
