/-! plain law: failures of a search, both sides -/
set_option maxRecDepth 100000
/-- a chain's classes and values on both sides: n links -/
def LK (a b : Nat → Int32) (ks : List (Nat × Int32)) : Prop := ∀ (i : Nat) (c : Nat × Int32), ks[i]? = some c → a i = knd c.1 ∧ b i = c.2
theorem LK1 (a b : Nat → Int32) (c : Nat) (v : Int32) : LK (upd a 0 (knd c)) (upd b 0 v) [(c, v)] := by
  intro i x hx
  have hi := (List.getElem?_eq_some_iff.mp hx).1
  have : [(c, v)].length = 1 := rfl
  obtain rfl : i = 0 := by omega
  obtain rfl : (c, v) = x := Option.some.inj hx
  exact ⟨rfl, rfl⟩
theorem LK.add {a b : Nat → Int32} {ks : List (Nat × Int32)} (h : LK a b ks) (c : Nat) (v : Int32) {n : Nat} (hn : ks.length = n) : LK (upd a n (knd c)) (upd b n v) (ks ++ [(c, v)]) := by
  subst hn
  intro i x hx
  rw [List.getElem?_append] at hx
  split at hx
  · rename_i hi
    rw [upd_e, upd_e, if_neg (by omega), if_neg (by omega)]
    exact h i x hx
  · rename_i hi
    have hi2 := (List.getElem?_eq_some_iff.mp hx).1
    have : [(c, v)].length = 1 := rfl
    have e : i = ks.length := by omega
    subst e
    rw [Nat.sub_self] at hx
    obtain rfl : (c, v) = x := Option.some.inj hx
    rw [upd_e, upd_e, if_pos rfl, if_pos rfl]
    exact ⟨rfl, rfl⟩
section FAIL
variable {K : Nat} {d : Nat → ClassId} {M : Nat → Int32} {F : Nat → Nat → Int32} {X : Nat → Int32} {XF : Nat → Nat → Int32} {G : Nat → Nat → Int64} {g gx : Nat → Int64} {P : Nat → Nat → Option Nat} {tl : va_W}
theorem link1 (K : Nat) (M : Nat → Int32) (g : Nat → Int64) (F : Nat → Nat → Int32) (x y : Int32) : fX4_link K x y (mup M 44 0, g, F) = some (mup M 44 (oN 1), g, Fk F (upd (F 45) 0 x) (upd (F 46) 0 y)) := by
  have h := linkM K M g F (F 45) (F 46) (n := 0) (by omega) x y
  rw [Fk_0] at h
  exact h
/-- a result of the reference: it failed with these links -/
def MFail (M : Nat → Int32) (F : Nat → Nat → Int32) (fa : Option (Int32 × MS)) (ks : List (Nat × Int32)) (r : Int32) : Prop := ∃ (g2 : Nat → Int64) (a b : Nat → Int32), fa = some (r, (mup M 44 (oN ks.length), g2, Fk F a b)) ∧ LK a b ks
theorem fin_bad {p : Int32} {now : T3} (hn : ok3 now) {ev fr cd cr : Int32} {g0 : Nat → Int64} (hs : fX4_search K p (M, g0, F) = some (S5 M ev (code3 now) fr cd cr, g, F)) (hb : ¬ fr ≤ M 9) : MFail (S5 M ev (code3 now) fr cd cr) F (fX4_finish K p (M, g0, F)) (if isE now.2.1 then [(11, fr), (10, now.2.1)] else if isE now.2.2 then [(11, fr), (10, now.2.2)] else [(11, fr)]) (-3) := by
  obtain ⟨ps, pl, pc⟩ := parts3 hn
  have k1 := link1 K (S5 M ev (code3 now) fr cd cr) g F 1 fr
  have st : fX4_finish K p (M, g0, F) = b1 (fX4_isEdge K now.2.1) fun r_33 => if r_33 = true then b1 (fX4_link K 2 now.2.1 (mup (S5 M ev (code3 now) fr cd cr) 44 (oN 1), g, Fk F (upd (F 45) 0 1) (upd (F 46) 0 fr))) fun μ_47 => some (-3, μ_47) else b1 (fX4_isEdge K now.2.2) fun r_38 => if r_38 = true then b1 (fX4_link K 2 now.2.2 (mup (S5 M ev (code3 now) fr cd cr) 44 (oN 1), g, Fk F (upd (F 45) 0 1) (upd (F 46) 0 fr))) fun μ_43 => some (-3, μ_43) else some (-3, (mup (S5 M ev (code3 now) fr cd cr) 44 (oN 1), g, Fk F (upd (F 45) 0 1) (upd (F 46) 0 fr))) := by
    unfold fX4_finish
    refine (b1_e hs).trans ?_
    rw [nmr]
    show (if fr ≤ M 9 then _ else b1 (fX4_link K 1 fr (mup (S5 M ev (code3 now) fr cd cr) 44 0, g, F)) _) = _
    rw [if_neg hb]
    refine (b1_e k1).trans ?_
    unfold fX4_coil fX4_capacitor
    refine (b1_e (v := coO (code3 now)) rfl).trans ?_
    rw [pl]
    refine congrArg _ ?_
    funext r
    by_cases c : r = true
    · rw [if_pos c, if_pos c]
      refine (b1_e (v := coO (code3 now)) rfl).trans ?_
      rw [pl]
    · rw [if_neg c, if_neg c]
      refine (b1_e (v := caO (code3 now)) rfl).trans ?_
      rw [pc]
      refine congrArg _ ?_
      funext r2
      by_cases c2 : r2 = true
      · rw [if_pos c2, if_pos c2]
        refine (b1_e (v := caO (code3 now)) rfl).trans ?_
        rw [pc]
      · rw [if_neg c2, if_neg c2]
  by_cases c1 : isE now.2.1 = true
  · rw [if_pos c1]
    refine ⟨g, upd (upd (F 45) 0 1) 1 2, upd (upd (F 46) 0 fr) 1 now.2.1, ?_, (LK1 (F 45) (F 46) 11 fr).add 10 now.2.1 (n := 1) rfl⟩
    rw [st]
    refine (b1_e (isEM K _)).trans ?_
    rw [if_pos c1]
    exact (b1_e (linkM K (S5 M ev (code3 now) fr cd cr) g F _ _ (n := 1) (by omega) 2 now.2.1)).trans rfl
  · rw [if_neg c1]
    by_cases c2 : isE now.2.2 = true
    · rw [if_pos c2]
      refine ⟨g, upd (upd (F 45) 0 1) 1 2, upd (upd (F 46) 0 fr) 1 now.2.2, ?_, (LK1 (F 45) (F 46) 11 fr).add 10 now.2.2 (n := 1) rfl⟩
      rw [st]
      refine (b1_e (isEM K _)).trans ?_
      rw [if_neg c1]
      refine (b1_e (isEM K _)).trans ?_
      rw [if_pos c2]
      exact (b1_e (linkM K (S5 M ev (code3 now) fr cd cr) g F _ _ (n := 1) (by omega) 2 now.2.2)).trans rfl
    · rw [if_neg c2]
      refine ⟨g, upd (F 45) 0 1, upd (F 46) 0 fr, ?_, LK1 (F 45) (F 46) 11 fr⟩
      rw [st]
      refine (b1_e (isEM K _)).trans ?_
      rw [if_neg c1]
      refine (b1_e (isEM K _)).trans ?_
      rw [if_neg c2]
      rfl
theorem TR.Mz (h : TR M F X XF G) (ev fo fr cd cr n : Int32) (a b : Nat → Int32) : TR (mup (S5 M ev fo fr cd cr) 44 n) (Fk F a b) X XF G :=
  h.cg (fun k _ _ => by rw [mup_n _ _ (by omega), S5_lo (by omega)]) (fun k _ _ => Fk_o (by omega) (by omega)) (fun _ _ _ => rfl) (fun _ _ _ => rfl)
theorem fin_over (hc : CR M F X XF G) (hK : 40 ≤ K) {p : Int32} {now : T3} (hn : ok3 now) {ev fr cd cr : Int32} {g0 : Nat → Int64} (hs : fX4_search K p (M, g0, F) = some (S5 M ev (code3 now) fr cd cr, g, F)) (hb : fr ≤ M 9) (ho : ovV M F (code3 now) (F 0 0) = true) : MFail (S5 M ev (code3 now) fr cd cr) F (fX4_finish K p (M, g0, F)) (if 500 ≤ efV M F (code3 now) (F 0 0) then [(11, fr), (12, voV M F (code3 now) (F 0 0) (M 7))] else [(11, fr), (12, voV M F (code3 now) (F 0 0) (M 7)), (13, efV M F (code3 now) (F 0 0))]) (-3) := by
  have hcb := ok3_b hn
  have h0 := hc.t.Mz ev (code3 now) fr cd cr 0 (F 45) (F 46)
  rw [Fk_0] at h0
  have hc0 : CR (mup (S5 M ev (code3 now) fr cd cr) 44 0) F X XF G := CR.mk h0 hc.s (by rw [mup_n _ _ (by decide), S5_lo (by decide)]; exact hc.ld)
  obtain ⟨g1, o1⟩ := ovM (g := g) hc0 hK hcb
  have o1 : fX4_isOverloaded K (code3 now) (mup (S5 M ev (code3 now) fr cd cr) 44 0, g, F) = some (ovV M F (code3 now) (F 0 0), (mup (S5 M ev (code3 now) fr cd cr) 44 0, g1, F)) := o1
  rw [ho] at o1
  have k1 := link1 K (S5 M ev (code3 now) fr cd cr) g1 F 1 fr
  have f00 : ∀ a b : Nat → Int32, Fk F a b 0 0 = F 0 0 := fun a b => by rw [Fk_o (by decide) (by decide)]
  obtain ⟨g2, v1⟩ := volM (g := g1) (hc.t.Mz ev (code3 now) fr cd cr (oN 1) (upd (F 45) 0 1) (upd (F 46) 0 fr)) hK (M 7) hcb (by rw [f00]; exact hc.s.v_fq)
  have v1 : fX4_voltageOf K (code3 now) (M 7) (mup (S5 M ev (code3 now) fr cd cr) 44 (oN 1), g1, Fk F (upd (F 45) 0 1) (upd (F 46) 0 fr)) = some (voV M F (code3 now) (F 0 0) (M 7), (mup (S5 M ev (code3 now) fr cd cr) 44 (oN 1), g2, Fk F (upd (F 45) 0 1) (upd (F 46) 0 fr))) := v1
  have k2 := linkM K (S5 M ev (code3 now) fr cd cr) g2 F (upd (F 45) 0 1) (upd (F 46) 0 fr) (n := 1) (by omega) 3 (voV M F (code3 now) (F 0 0) (M 7))
  have t2 := hc.t.Mz ev (code3 now) fr cd cr (oN 2) (upd (upd (F 45) 0 1) 1 3) (upd (upd (F 46) 0 fr) 1 (voV M F (code3 now) (F 0 0) (M 7)))
  obtain ⟨g3, w1, -⟩ := effM (g := g2) t2 hK hcb (by rw [f00]; exact hc.s.v_fq)
  have w1 : fX4_efficiencyOf K (code3 now) (mup (S5 M ev (code3 now) fr cd cr) 44 (oN 2), g2, Fk F (upd (upd (F 45) 0 1) 1 3) (upd (upd (F 46) 0 fr) 1 (voV M F (code3 now) (F 0 0) (M 7)))) = some (efV M F (code3 now) (F 0 0), (mup (S5 M ev (code3 now) fr cd cr) 44 (oN 2), g3, Fk F (upd (upd (F 45) 0 1) 1 3) (upd (upd (F 46) 0 fr) 1 (voV M F (code3 now) (F 0 0) (M 7))))) := w1
  obtain ⟨g4, w2, -⟩ := effM (g := g3) t2 hK hcb (by rw [f00]; exact hc.s.v_fq)
  have w2 : fX4_efficiencyOf K (code3 now) (mup (S5 M ev (code3 now) fr cd cr) 44 (oN 2), g3, Fk F (upd (upd (F 45) 0 1) 1 3) (upd (upd (F 46) 0 fr) 1 (voV M F (code3 now) (F 0 0) (M 7)))) = some (efV M F (code3 now) (F 0 0), (mup (S5 M ev (code3 now) fr cd cr) 44 (oN 2), g4, Fk F (upd (upd (F 45) 0 1) 1 3) (upd (upd (F 46) 0 fr) 1 (voV M F (code3 now) (F 0 0) (M 7))))) := w2
  have k3 := linkM K (S5 M ev (code3 now) fr cd cr) g4 F (upd (upd (F 45) 0 1) 1 3) (upd (upd (F 46) 0 fr) 1 (voV M F (code3 now) (F 0 0) (M 7))) (n := 2) (by omega) 4 (efV M F (code3 now) (F 0 0))
  have L2 := (LK1 (F 45) (F 46) 11 fr).add 12 (voV M F (code3 now) (F 0 0) (M 7)) (n := 1) rfl
  have st : fX4_finish K p (M, g0, F) = if (500 : Int32) ≤ efV M F (code3 now) (F 0 0) then some (-3, (mup (S5 M ev (code3 now) fr cd cr) 44 (oN 2), g3, Fk F (upd (upd (F 45) 0 1) 1 3) (upd (upd (F 46) 0 fr) 1 (voV M F (code3 now) (F 0 0) (M 7))))) else some (-3, (mup (S5 M ev (code3 now) fr cd cr) 44 (oN 3), g4, Fk F (upd (upd (upd (F 45) 0 1) 1 3) 2 4) (upd (upd (upd (F 46) 0 fr) 1 (voV M F (code3 now) (F 0 0) (M 7))) 2 (efV M F (code3 now) (F 0 0))))) := by
    unfold fX4_finish
    refine (b1_e hs).trans ?_
    rw [nmr]
    show (if fr ≤ M 9 then b2 (fX4_isOverloaded K (code3 now) (mup (S5 M ev (code3 now) fr cd cr) 44 0, g, F)) _ else _) = _
    rw [if_pos hb]
    refine (b2_e o1).trans ?_
    rw [if_pos rfl]
    refine (b1_e k1).trans ?_
    refine (b2_e v1).trans ?_
    refine (b1_e k2).trans ?_
    refine (b2_e w1).trans ?_
    by_cases c : (500 : Int32) ≤ efV M F (code3 now) (F 0 0)
    · rw [if_pos c, if_pos c]
    · rw [if_neg c, if_neg c]
      refine (b2_e w2).trans ?_
      exact (b1_e k3).trans rfl
  rw [st]
  by_cases c : (500 : Int32) ≤ efV M F (code3 now) (F 0 0)
  · rw [if_pos c, if_pos c]
    exact ⟨g3, _, _, rfl, L2⟩
  · rw [if_neg c, if_neg c]
    exact ⟨g4, _, _, rfl, L2.add 13 (efV M F (code3 now) (F 0 0)) (n := 2) rfl⟩
theorem fin_ok (hc : CR M F X XF G) (hK : 40 ≤ K) {p : Int32} {now : T3} (hn : ok3 now) {ev fr cd cr : Int32} {g0 : Nat → Int64} (hs : fX4_search K p (M, g0, F) = some (S5 M ev (code3 now) fr cd cr, g, F)) (hb : fr ≤ M 9) (ho : ovV M F (code3 now) (F 0 0) = false) : ∃ g1, fX4_finish K p (M, g0, F) = b1 (fX4_remember K (mup (S5 M ev (code3 now) fr cd cr) 44 0, g1, F)) fun μ_9 => b1 (fX4_change K 1 (μ_9.1 40) μ_9) fun μ_11 => some (μ_11.1 41, μ_11) := by
  have hcb := ok3_b hn
  have h0 := hc.t.Mz ev (code3 now) fr cd cr 0 (F 45) (F 46)
  rw [Fk_0] at h0
  have hc0 : CR (mup (S5 M ev (code3 now) fr cd cr) 44 0) F X XF G := CR.mk h0 hc.s (by rw [mup_n _ _ (by decide), S5_lo (by decide)]; exact hc.ld)
  obtain ⟨g1, o1⟩ := ovM (g := g) hc0 hK hcb
  have o1 : fX4_isOverloaded K (code3 now) (mup (S5 M ev (code3 now) fr cd cr) 44 0, g, F) = some (ovV M F (code3 now) (F 0 0), (mup (S5 M ev (code3 now) fr cd cr) 44 0, g1, F)) := o1
  rw [ho] at o1
  refine ⟨g1, ?_⟩
  unfold fX4_finish
  refine (b1_e hs).trans ?_
  rw [nmr]
  show (if fr ≤ M 9 then b2 (fX4_isOverloaded K (code3 now) (mup (S5 M ev (code3 now) fr cd cr) 44 0, g, F)) _ else _) = _
  rw [if_pos hb]
  refine (b2_e o1).trans ?_
  rw [if_neg (by decide)]
end FAIL
