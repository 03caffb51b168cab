/-! plain law: failures of a search, the component -/
set_option maxRecDepth 100000
abbrev fcell (q ci : Nat) (v : Int32) (nx : Option Nat) : Nat × va_E := (q, .inr (ci, [.int v, va_rf nx, .null, .null, .null, .null, .int 0]))
theorem Cn1 (q ci : Nat) (v : Int32) (h : 10 ≤ ci ∧ ci ≤ 15) : Cn0 [fcell q ci v none] [(q, ci, v)] (some q) := ⟨rfl, h, none, List.mem_cons_self .., rfl⟩
theorem Cn0.cons {nw : va_W} {ch : List (Nat × Nat × Int32)} {nx : Option Nat} (h : Cn0 nw ch nx) (q ci : Nat) (v : Int32) (hc : 10 ≤ ci ∧ ci ≤ 15) : Cn0 ([fcell q ci v nx] ++ nw) ((q, ci, v) :: ch) (some q) := ⟨rfl, hc, nx, List.mem_append_left _ (List.mem_cons_self ..), h.sub (fun c hc => List.mem_append_right _ hc)⟩
section FAIL
variable {K : Nat} {d : Nat → ClassId} {M : Nat → Int32} {F : Nat → Nat → Int32} {X : Nat → Int32} {XF : Nat → Nat → Int32} {G : Nat → Nat → Int64} {g gx : Nat → Int64} {P : Nat → Nat → Option Nat} {tl : va_W}
/-- the check threw these -/
def XFail (fb : UU → Option (XR Unit XT)) (ks : List (Nat × Int32)) (X : Nat → Int32) (XF : Nat → Nat → Int32) (G : Nat → Nat → Int64) (P : Nat → Nat → Option Nat) (tl : va_W) : Prop := ∀ u, ∃ (q : Nat) (nw : va_W) (X' : Nat → Int32) (gx' : Nat → Int64) (ch : List (Nat × Nat × Int32)), fb u = some (.inl (11, q, ((X', gx', XF, G, P), nw ++ tl))) ∧ Cn0 nw ch (some q) ∧ ch.map (·.2) = ks ∧ ∀ k, k ≠ 20 → X' k = X k
theorem chk_bad {now : T3} {fr : Int32} (h45 : X 45 = M 9) (h90 : X 90 = fr) (hb : ¬ fr ≤ M 9) : XFail (fun u => fX9_check K d (now.1, now.2.1, now.2.2) u ((X, gx, XF, G, P), tl)) (if isE now.2.1 then [(11, fr), (10, now.2.1)] else if isE now.2.2 then [(11, fr), (10, now.2.2)] else [(11, fr)]) X XF G P tl := by
  have hlt : X 45 < X 90 := by rw [h45, h90]; exact le_nlt.mp hb
  intro u
  by_cases c1 : isE now.2.1 = true
  · have e : fX9_checkSwr K d (now.1, now.2.1, now.2.2) (ue u) ((X, gx, XF, G, P), tl) = some (.inl (10, ue u 0, ((X, gx, XF, G, P), [fcell (ue u 0) 10 now.2.1 none] ++ tl))) := by
      unfold fX9_checkSwr
      show (if X 45 < X 90 then _ else _) = _
      rw [if_pos hlt]
      refine (b1_e (isEX K now.2.1)).trans ?_
      rw [if_pos c1]
      unfold ask
      refine (b1_e (isEX K now.2.1)).trans ?_
      rw [if_pos c1, nmr]
      rfl
    refine ⟨uo u 0, [fcell (uo u 0) 11 fr (some (ue u 0))] ++ [fcell (ue u 0) 10 now.2.1 none], X, gx, [(uo u 0, 11, fr), (ue u 0, 10, now.2.1)], ?_, (Cn1 (ue u 0) 10 now.2.1 (by decide)).cons (uo u 0) 11 fr (by decide), by rw [if_pos c1]; rfl, fun _ _ => rfl⟩
    unfold fX9_check
    refine (b3u_l e).trans ?_
    rw [if_pos rfl]
    unfold ask
    show some (Sum.inl (11, uo u 0, ((X, gx, XF, G, P), [fcell (uo u 0) 11 (X 90) (some (ue u 0))] ++ ([fcell (ue u 0) 10 now.2.1 none] ++ tl)))) = _
    rw [h90, List.append_assoc]
  · rw [if_neg c1]
    by_cases c2 : isE now.2.2 = true
    · have e : fX9_checkSwr K d (now.1, now.2.1, now.2.2) (ue u) ((X, gx, XF, G, P), tl) = some (.inl (10, ue u 0, ((X, gx, XF, G, P), [fcell (ue u 0) 10 now.2.2 none] ++ tl))) := by
        unfold fX9_checkSwr
        show (if X 45 < X 90 then _ else _) = _
        rw [if_pos hlt]
        refine (b1_e (isEX K now.2.1)).trans ?_
        rw [if_neg c1]
        refine (b1_e (isEX K now.2.2)).trans ?_
        rw [if_pos c2]
        unfold ask
        refine (b1_e (isEX K now.2.1)).trans ?_
        rw [if_neg c1, nmr]
        rfl
      refine ⟨uo u 0, [fcell (uo u 0) 11 fr (some (ue u 0))] ++ [fcell (ue u 0) 10 now.2.2 none], X, gx, [(uo u 0, 11, fr), (ue u 0, 10, now.2.2)], ?_, (Cn1 (ue u 0) 10 now.2.2 (by decide)).cons (uo u 0) 11 fr (by decide), by rw [if_pos c2]; rfl, fun _ _ => rfl⟩
      unfold fX9_check
      refine (b3u_l e).trans ?_
      rw [if_pos rfl]
      unfold ask
      show some (Sum.inl (11, uo u 0, ((X, gx, XF, G, P), [fcell (uo u 0) 11 (X 90) (some (ue u 0))] ++ ([fcell (ue u 0) 10 now.2.2 none] ++ tl)))) = _
      rw [h90, List.append_assoc]
    · have e : fX9_checkSwr K d (now.1, now.2.1, now.2.2) (ue u) ((X, gx, XF, G, P), tl) = some (.inl (11, ue u 0, ((X, gx, XF, G, P), [fcell (ue u 0) 11 fr none] ++ tl))) := by
        unfold fX9_checkSwr
        show (if X 45 < X 90 then _ else _) = _
        rw [if_pos hlt]
        refine (b1_e (isEX K now.2.1)).trans ?_
        rw [if_neg c1]
        refine (b1_e (isEX K now.2.2)).trans ?_
        rw [if_neg c2]
        unfold ask
        show some (Sum.inl (11, ue u 0, ((X, gx, XF, G, P), [fcell (ue u 0) 11 (X 90) none] ++ tl))) = _
        rw [h90]
      refine ⟨ue u 0, [fcell (ue u 0) 11 fr none], X, gx, [(ue u 0, 11, fr)], ?_, Cn1 (ue u 0) 11 fr (by decide), by rw [if_neg c2]; rfl, fun _ _ => rfl⟩
      unfold fX9_check
      refine (b3u_l e).trans ?_
      rw [if_neg (by decide), if_pos rfl]
/-- the SWR is right; then the voltage is looked at -/
theorem chk_swr {now : T3} {fr : Int32} (h45 : X 45 = M 9) (h90 : X 90 = fr) (hb : fr ≤ M 9) (u : UU) : fX9_checkSwr K d (now.1, now.2.1, now.2.2) u ((X, gx, XF, G, P), tl) = some (.inr ((), ((X, gx, XF, G, P), tl))) := by
  unfold fX9_checkSwr
  show (if X 45 < X 90 then _ else _) = _
  rw [if_neg (by rw [h45, h90, lt32]; rw [le32] at hb; omega)]
theorem chk_volt (hc : CR M F X XF G) (hK : 40 ≤ K) {now : T3} (hn : ok3 now) : ∃ (X2 : Nat → Int32) (gx2 : Nat → Int64), (∀ k, k ≠ 20 → X2 k = X k) ∧ ∀ u, fX9_checkVoltage K d (now.1, now.2.1, now.2.2) u ((X, gx, XF, G, P), tl) = if ovV M F (code3 now) (F 0 0) = true then (if (500 : Int32) ≤ efV M F (code3 now) (F 0 0) then some (.inl (12, u 0, ((X2, gx2, XF, G, P), [fcell (u 0) 12 (voV M F (code3 now) (F 0 0) (M 7)) none] ++ tl))) else some (.inl (12, u 0, ((X2, gx2, XF, G, P), ([fcell (u 0) 12 (voV M F (code3 now) (F 0 0) (M 7)) (some (u 1))] ++ [fcell (u 1) 13 (efV M F (code3 now) (F 0 0)) none]) ++ tl)))) else some (.inr ((), ((X2, gx2, XF, G, P), tl))) := by
  have hcb := ok3_b hn
  obtain ⟨X2, gx2, a1, a2, a3⟩ := lay' (gx := gx) (P := P) hc hK hcb hc.s.v_fq
  refine ⟨X2, gx2, a2, fun u => ?_⟩
  have x2 : xmrg (X, gx, XF, G, P) (X2, gx2, XF, G, P) = (X2, gx2, XF, G, P) := xmrg_e (fun k hk => a2 k (by omega))
  have v1 := voltX (P := P) hc hK hcb hc.s.v_fq a2 a3
  unfold fX9_checkVoltage fX2_codeq
  refine (b1_e (v := code3 now) rfl).trans ?_
  refine (b1_e (by show fX3_lay K (code3 now) (X 60) (X, gx, XF, G, P) = _; rw [hc.s.fq]; exact a1)).trans ?_
  rw [nmr, x2]
  refine (b2_e (ovX hc hK hcb hc.s.v_fq a2 a3)).trans ?_
  rw [nmr, xmrg_r]
  by_cases c : ovV M F (code3 now) (F 0 0) = true
  · rw [if_pos c, if_pos c]
    refine (b2_e (eff' a3)).trans ?_
    rw [nmr, xmrg_r]
    by_cases c2 : (500 : Int32) ≤ efV M F (code3 now) (F 0 0)
    · rw [if_pos c2, if_pos c2]
      unfold ask
      refine (b2_e v1).trans ?_
      rw [nmr, xmrg_r, nmr]
      rfl
    · rw [if_neg c2, if_neg c2]
      unfold ask
      refine (b2_e v1).trans ?_
      rw [nmr, xmrg_r]
      refine (b2_e (eff' a3)).trans ?_
      rw [nmr, xmrg_r, nmr]
      rfl
  · rw [if_neg c, if_neg c]
theorem chk_over (hc : CR M F X XF G) (hK : 40 ≤ K) {now : T3} (hn : ok3 now) {fr : Int32} (h90 : X 90 = fr) (hb : fr ≤ M 9) (ho : ovV M F (code3 now) (F 0 0) = true) : XFail (fun u => fX9_check K d (now.1, now.2.1, now.2.2) u ((X, gx, XF, G, P), tl)) (if 500 ≤ efV M F (code3 now) (F 0 0) then [(11, fr), (12, voV M F (code3 now) (F 0 0) (M 7))] else [(11, fr), (12, voV M F (code3 now) (F 0 0) (M 7)), (13, efV M F (code3 now) (F 0 0))]) X XF G P tl := by
  obtain ⟨X2, gx2, a2, a1⟩ := chk_volt (d := d) (gx := gx) (P := P) (tl := tl) hc hK hn
  intro u
  have a1 := a1 (ue (uo u))
  rw [if_pos ho] at a1
  by_cases c2 : (500 : Int32) ≤ efV M F (code3 now) (F 0 0)
  · rw [if_pos c2] at a1 ⊢
    refine ⟨uo (uo u) 0, [fcell (uo (uo u) 0) 11 fr (some (ue (uo u) 0))] ++ [fcell (ue (uo u) 0) 12 (voV M F (code3 now) (F 0 0) (M 7)) none], X2, gx2, [(uo (uo u) 0, 11, fr), (ue (uo u) 0, 12, voV M F (code3 now) (F 0 0) (M 7))], ?_, (Cn1 _ 12 _ (by decide)).cons _ 11 fr (by decide), rfl, a2⟩
    unfold fX9_check
    refine (b3u_r (chk_swr hc.t.gsw h90 hb (ue u))).trans ?_
    refine (b3u_l a1).trans ?_
    rw [if_pos rfl]
    unfold ask
    show some (Sum.inl (11, uo (uo u) 0, ((X2, gx2, XF, G, P), [fcell (uo (uo u) 0) 11 (X2 90) (some (ue (uo u) 0))] ++ ([fcell (ue (uo u) 0) 12 (voV M F (code3 now) (F 0 0) (M 7)) none] ++ tl)))) = _
    rw [a2 90 (by decide), h90, List.append_assoc]
  · rw [if_neg c2] at a1 ⊢
    refine ⟨uo (uo u) 0, [fcell (uo (uo u) 0) 11 fr (some (ue (uo u) 0))] ++ ([fcell (ue (uo u) 0) 12 (voV M F (code3 now) (F 0 0) (M 7)) (some (ue (uo u) 1))] ++ [fcell (ue (uo u) 1) 13 (efV M F (code3 now) (F 0 0)) none]), X2, gx2, [(uo (uo u) 0, 11, fr), (ue (uo u) 0, 12, voV M F (code3 now) (F 0 0) (M 7)), (ue (uo u) 1, 13, efV M F (code3 now) (F 0 0))], ?_, ((Cn1 _ 13 _ (by decide)).cons _ 12 _ (by decide)).cons _ 11 fr (by decide), rfl, a2⟩
    unfold fX9_check
    refine (b3u_r (chk_swr hc.t.gsw h90 hb (ue u))).trans ?_
    refine (b3u_l a1).trans ?_
    rw [if_pos rfl]
    unfold ask
    show some (Sum.inl (11, uo (uo u) 0, ((X2, gx2, XF, G, P), [fcell (uo (uo u) 0) 11 (X2 90) (some (ue (uo u) 0))] ++ (([fcell (ue (uo u) 0) 12 (voV M F (code3 now) (F 0 0) (M 7)) (some (ue (uo u) 1))] ++ [fcell (ue (uo u) 1) 13 (efV M F (code3 now) (F 0 0)) none]) ++ tl)))) = _
    rw [a2 90 (by decide), h90]
    simp only [List.append_assoc]
theorem chk_ok (hc : CR M F X XF G) (hK : 40 ≤ K) {now : T3} (hn : ok3 now) {fr : Int32} (h90 : X 90 = fr) (hb : fr ≤ M 9) (ho : ovV M F (code3 now) (F 0 0) = false) : ∃ (X2 : Nat → Int32) (gx2 : Nat → Int64), (∀ k, k ≠ 20 → X2 k = X k) ∧ ∀ u, fX9_check K d (now.1, now.2.1, now.2.2) u ((X, gx, XF, G, P), tl) = some (.inr ((), ((X2, gx2, XF, G, P), tl))) := by
  obtain ⟨X2, gx2, a2, a1⟩ := chk_volt (d := d) (gx := gx) (P := P) (tl := tl) hc hK hn
  refine ⟨X2, gx2, a2, fun u => ?_⟩
  have a1 := a1 (ue (uo u))
  rw [if_neg (by rw [ho]; decide)] at a1
  unfold fX9_check
  refine (b3u_r (chk_swr hc.t.gsw h90 hb (ue u))).trans ?_
  exact (b3u_r a1).trans rfl
end FAIL
