/-! plain law: the search -/
set_option maxRecDepth 100000
theorem b3_e {α β γ δ : Type} {x : Option (α × β × γ)} {k : α → β → γ → Option δ} {a : α} {b : β} {c : γ} (h : x = some (a, b, c)) : b3 x k = k a b c := by subst h; rfl
theorem parts3 {t : T3} (h : ok3 t) : sdO (code3 t) = t.1 ∧ coO (code3 t) = t.2.1 ∧ caO (code3 t) = t.2.2 := by
  have hc := tog h
  obtain ⟨a, b, c⟩ := parts32 (s := code3 t) ⟨hc.1, hc.2.1⟩
  have e := hc.2.2
  have e : (code3 t).toInt = 4096 * t.1.toInt + 64 * t.2.1.toInt + t.2.2.toInt := e
  obtain ⟨h1, h2, h3⟩ := h
  rw [e] at a b c
  refine ⟨?_, ?_, ?_⟩
  · rw [eq32, a]; clear a b c e hc; omega
  · rw [eq32, b]; clear a b c e hc; omega
  · rw [eq32, c]; clear a b c e hc; omega
theorem sub1_b {a : Int32} (h : 0 ≤ a.toInt ∧ a.toInt ≤ 1) : 0 ≤ (1 - a).toInt ∧ (1 - a).toInt ≤ 1 := by
  have e : (1 - a).toInt = 1 - a.toInt := by rw [s32, k32_1] <;> (try rw [k32_1]) <;> omega
  rw [e]; omega
def cS (f : Nat → Int32) (v : Int32) : Nat → Nat
  | 0 => 0
  | n + 1 => cS f v n + (if f n < v then 1 else 0)
theorem cS_le (f : Nat → Int32) {v w : Int32} (h : w ≤ v) (n : Nat) : cS f w n ≤ cS f v n := by
  induction n with
  | zero => exact Nat.le_refl _
  | succ n ih =>
    rw [cS, cS]
    by_cases c : f n < w
    · rw [if_pos c, if_pos (by rw [lt32] at c ⊢; rw [le32] at h; omega)]; omega
    · rw [if_neg c]; omega
theorem cS_lt (f : Nat → Int32) {v w : Int32} (h : w < v) {s : Nat} (hs : f s = w) (n : Nat) (hn : s < n) : cS f w n < cS f v n := by
  induction n with
  | zero => omega
  | succ n ih =>
    rw [cS, cS]
    by_cases c : s = n
    · subst c
      rw [hs, if_neg (by rw [lt32]; omega), if_pos h]
      have := cS_le f (v := v) (w := w) (by rw [lt32] at h; rw [le32]; omega) s
      omega
    · have := ih (by omega)
      by_cases c : f n < w
      · rw [if_pos c, if_pos (by rw [lt32] at c h ⊢; omega)]; omega
      · rw [if_neg c]; omega
theorem cS_b (f : Nat → Int32) (v : Int32) (n : Nat) : cS f v n ≤ n := by
  induction n with
  | zero => exact Nat.le_refl _
  | succ n ih =>
    rw [cS]
    split <;> omega
theorem cS_b1 (f : Nat → Int32) (v : Int32) {s : Nat} (hs : ¬ f s < v) (n : Nat) (hn : s < n) : cS f v n + 1 ≤ n := by
  induction n with
  | zero => omega
  | succ n ih =>
    rw [cS]
    by_cases c : s = n
    · subst c
      rw [if_neg hs]
      have := cS_b f v s
      omega
    · have := ih (by omega)
      split <;> omega
def wd : Nat → Int32
  | 0 => 0
  | k + 1 => oN (2 ^ k)
theorem wd_h {k : Nat} (h : k ≤ 4) : wd (k + 1) / 2 = wd k := by
  match k, h with
  | 0, _ => decide
  | 1, _ => decide
  | 2, _ => decide
  | 3, _ => decide
  | 4, _ => decide
  | k + 5, h => omega
theorem wd_p {k : Nat} (h : k ≤ 4) : ¬ wd (k + 1) ≤ 0 := by
  match k, h with
  | 0, _ => decide
  | 1, _ => decide
  | 2, _ => decide
  | 3, _ => decide
  | 4, _ => decide
  | k + 5, h => omega
section RND
variable {K : Nat} {d : Nat → ClassId} {M : Nat → Int32} {F : Nat → Nat → Int32} {X : Nat → Int32} {XF : Nat → Nat → Int32} {G : Nat → Nat → Int64} {g gx : Nat → Int64} {P : Nat → Nat → Option Nat} {tl : va_W}
/-- one round on both sides -/
theorem impB (hc : CR M F X XF G) (hK : 40 ≤ K) {now : T3} (hn : ok3 now) (w : Int32) {ev fr cd cr : Int32} (hfr : fr.toInt ≤ 99999) (hev : X 91 = ev) (h90 : X 90 = fr) (hw : ¬ w ≤ 0) : ∃ (ev' cd' cr' : Int32) (g' : Nat → Int64) (best' : T3) (least' : Int32) (X' : Nat → Int32) (gx' : Nat → Int64),
    (∀ m, fX4_search_L28 K (m + 1) w (S5 M ev (code3 now) fr cd cr, g, F) = if fr ≤ cr' then fX4_search_L28 K m (w / 2) (S5 M ev' (code3 now) fr cd' cr', g', F) else fX4_search_L28 K m w (S5 M ev' cd' cr' cd' cr', g', F)) ∧ fX9_improve K now w (X, gx, XF, G, P) = some (decide (least' < fr), best', (X', gx', XF, G, P)) ∧ Inv M F now fr cd' cr' best' least' ∧ ¬ cd' < 0 ∧ X' 91 = ev' ∧ X' 90 = least' ∧ (∀ k, k ≠ 20 → k ≠ 90 → k ≠ 91 → X' k = X k) := by
  obtain ⟨ps, pl, pc⟩ := parts3 hn
  have m1 : (-1 : Int32) < 0 := by decide
  obtain ⟨e1, c1, r1, g1, t1, l1, X1, y1, a1, b1', i1, v1, o1, _⟩ := gstep (g := g) (gx := gx) (P := P) (fo := code3 now) (cr := cr) hc hK (nx := mv0 now w) (now := now) (best := now) (least := fr) hn.1 (Or.inl ⟨m1, rfl, rfl⟩) hfr hev
  have hc1 := hc.sx (fun k h1 _ h3 => o1 k h1 h3)
  obtain ⟨e2, c2, r2, g2, t2, l2, X2, y2, a2, b2', i2, v2, o2, _⟩ := gstep (g := g1) (gx := y1) (P := P) (fo := code3 now) hc1 hK (nx := mv1 now w) hn.1 i1 hfr v1
  have hc2 := hc1.sx (fun k h1 _ h3 => o2 k h1 h3)
  obtain ⟨e3, c3, r3, g3, t3, l3, X3, y3, a3, b3', i3, v3, o3, _⟩ := gstep (g := g2) (gx := y2) (P := P) (fo := code3 now) hc2 hK (nx := mv2 now w) hn.1 i2 hfr v2
  have hc3 := hc2.sx (fun k h1 _ h3 => o3 k h1 h3)
  obtain ⟨e4, c4, r4, g4, t4, l4, X4, y4, a4, b4', i4, v4, o4, _⟩ := gstep (g := g3) (gx := y3) (P := P) (fo := code3 now) hc3 hK (nx := mv3 now w) hn.1 i3 hfr v3
  have hc4 := hc3.sx (fun k h1 _ h3 => o4 k h1 h3)
  have ok4 : ok3 (mv4 now w) := ⟨sub1_b hn.1, hn.2.1, hn.2.2⟩
  obtain ⟨e5, c5, r5, g5, t5, l5, X5, y5, a5, b5', i5, v5, o5, n5⟩ := gstep (g := g4) (gx := y4) (P := P) (fo := code3 now) hc4 hK (nx := mv4 now w) ok4.1 i4 hfr v4
  have ho : ∀ k, k ≠ 20 → k ≠ 91 → X5 k = X k := fun k h1 h2 => (o5 k h1 h2).trans ((o4 k h1 h2).trans ((o3 k h1 h2).trans ((o2 k h1 h2).trans (o1 k h1 h2))))
  refine ⟨e5, c5, r5, g5, t5, l5, mup X5 90 l5, y5, fun m => ?_, ?_, i5, n5 ok4, by rw [mup_n _ _ (by decide)]; exact v5, mup_s _ _ _, fun k h1 h2 h3 => by rw [mup_n _ _ h2]; exact ho k h1 h3⟩
  · rw [fX4_search_L28, if_neg hw]
    unfold fX4_side fX4_coil fX4_capacitor
    refine (b1_e (v := sdO (code3 now)) rfl).trans ?_
    refine (b1_e (v := coO (code3 now)) rfl).trans ?_
    refine (b1_e (v := caO (code3 now)) rfl).trans ?_
    rw [ps, pl, pc, nmr]
    show b1 (fX4_tryOne K now.1 (now.2.1 + w) now.2.2 (mup (S5 M ev (code3 now) fr cd cr) 42 (-1), g, F)) _ = _
    rw [S5_42]
    refine (b1_e a1).trans ?_
    refine (b1_e a2).trans ?_
    refine (b1_e a3).trans ?_
    refine (b1_e a4).trans ?_
    refine (b1_e a5).trans ?_
    show (if fr ≤ r5 then _ else _) = _
    by_cases c : fr ≤ r5
    · rw [if_pos c, if_pos c, nmr]
    · rw [if_neg c, if_neg c, nmr, nmr]
      show fX4_search_L28 K m w (mup (mup (S5 M e5 (code3 now) fr c5 r5) 40 c5) 41 r5, g5, F) = _
      rw [S5_40, S5_41]
  · rw [imp0]
    show Gi0 K now w now (X 90) (X, gx, XF, G, P) = _
    rw [h90]
    unfold Gi0
    rw [b1']
    unfold Gi1
    rw [b2']
    unfold Gi2
    rw [b3']
    unfold Gi3
    rw [b4']
    unfold Gi4
    rw [b5']
    unfold G5
    show some (decide (l5 < X5 90), t5, (mup X5 90 l5, y5, XF, G, P)) = _
    rw [ho 90 (by decide) (by decide), h90]
abbrev SW (M : Nat → Int32) (F : Nat → Nat → Int32) : Nat → Int32 := fun s => swV M F (oN s) (F 0 0)
theorem srch_L (hK : 40 ≤ K) (N : Nat) : ∀ (k m1 m2 : Nat) (now : T3) (ev fr cd cr : Int32) (g gx : Nat → Int64) (X : Nat → Int32), CR M F X XF G → k ≤ 5 → cS (SW M F) fr 8192 + k ≤ N → N + 1 ≤ m1 → N + 1 ≤ m2 → ok3 now → fr = swV M F (code3 now) (F 0 0) → X 91 = ev → X 90 = fr → ∃ (now' : T3) (ev' fr' cd' cr' : Int32) (g' : Nat → Int64) (X' : Nat → Int32) (gx' : Nat → Int64), fX4_search_L28 K m1 (wd k) (S5 M ev (code3 now) fr cd cr, g, F) = some (S5 M ev' (code3 now') fr' cd' cr', g', F) ∧ fX9_init_L32 K m2 (wd k) now.1 now.2.1 now.2.2 (X, gx, XF, G, P) = some (now', (X', gx', XF, G, P)) ∧ ok3 now' ∧ fr' = swV M F (code3 now') (F 0 0) ∧ X' 90 = fr' ∧ X' 91 = ev' ∧ (∀ k, k ≠ 20 → k ≠ 90 → k ≠ 91 → X' k = X k) := by
  have base : ∀ (m1 m2 : Nat) (now : T3) (ev fr cd cr : Int32) (g gx : Nat → Int64) (X : Nat → Int32), 1 ≤ m1 → 1 ≤ m2 → ok3 now → fr = swV M F (code3 now) (F 0 0) → X 91 = ev → X 90 = fr → ∃ (now' : T3) (ev' fr' cd' cr' : Int32) (g' : Nat → Int64) (X' : Nat → Int32) (gx' : Nat → Int64), fX4_search_L28 K m1 (wd 0) (S5 M ev (code3 now) fr cd cr, g, F) = some (S5 M ev' (code3 now') fr' cd' cr', g', F) ∧ fX9_init_L32 K m2 (wd 0) now.1 now.2.1 now.2.2 (X, gx, XF, G, P) = some (now', (X', gx', XF, G, P)) ∧ ok3 now' ∧ fr' = swV M F (code3 now') (F 0 0) ∧ X' 90 = fr' ∧ X' 91 = ev' ∧ (∀ k, k ≠ 20 → k ≠ 90 → k ≠ 91 → X' k = X k) := by
    intro m1 m2 now ev fr cd cr g gx X h1 h2 hn hfr h91 h90
    obtain ⟨m1, rfl⟩ : ∃ k, m1 = k + 1 := ⟨m1 - 1, by omega⟩
    obtain ⟨m2, rfl⟩ : ∃ k, m2 = k + 1 := ⟨m2 - 1, by omega⟩
    refine ⟨now, ev, fr, cd, cr, g, X, gx, ?_, ?_, hn, hfr, h90, h91, fun _ _ _ _ => rfl⟩
    · rw [fX4_search_L28, if_pos (by decide)]
    · rw [fX9_init_L32, if_pos (by decide)]
  induction N with
  | zero =>
    intro k m1 m2 now ev fr cd cr g gx X hc hk hN h1 h2 hn hfr h91 h90
    have : k = 0 := by omega
    subst this
    exact base m1 m2 now ev fr cd cr g gx X (by omega) (by omega) hn hfr h91 h90
  | succ N ih =>
    intro k m1 m2 now ev fr cd cr g gx X hc hk hN h1 h2 hn hfr h91 h90
    cases k with
    | zero => exact base m1 m2 now ev fr cd cr g gx X (by omega) (by omega) hn hfr h91 h90
    | succ k =>
      obtain ⟨m1, rfl⟩ : ∃ k, m1 = k + 1 := ⟨m1 - 1, by omega⟩
      obtain ⟨m2, rfl⟩ : ∃ k, m2 = k + 1 := ⟨m2 - 1, by omega⟩
      have hb := sw_b M F (code3 now) (F 0 0)
      obtain ⟨ev', cd', cr', g', best', least', X', gx', a1, a2, a3, a4, a5, a6, a7⟩ := impB (g := g) (gx := gx) (P := P) (cd := cd) (cr := cr) hc hK hn (wd (k + 1)) (by rw [hfr]; exact hb.2) h91 h90 (wd_p (by omega))
      have hc' := hc.sx a7
      have x1 : fX9_init_L32 K (m2 + 1) (wd (k + 1)) now.1 now.2.1 now.2.2 (X, gx, XF, G, P) = if least' < fr then fX9_init_L32 K m2 (wd (k + 1)) best'.1 best'.2.1 best'.2.2 (X', gx', XF, G, P) else fX9_init_L32 K m2 (wd k) best'.1 best'.2.1 best'.2.2 (X', gx', XF, G, P) := by
        rw [fX9_init_L32, if_neg (wd_p (by omega))]
        refine (b3_e a2).trans ?_
        by_cases c : least' < fr
        · rw [if_pos (decide_eq_true c), if_pos c]
        · rw [if_neg (by rw [decide_eq_false c]; decide), if_neg c, nmr, wd_h (by omega)]
      rcases a3 with ⟨h, _, _⟩ | ⟨_, ⟨q1, q2, q3⟩, ⟨p1, p2, p3, p4⟩ | ⟨p1, p2, p3⟩⟩
      · exact absurd h a4
      · -- a better one
        have hlt : least' < fr := by rw [p4]; exact p1
        have hle : ¬ fr ≤ cr' := lt_nle p1
        have hcd : cd' = oN cd'.toNatClampNeg := oN_of (nn32 q2).symm
        have hcn := nn32 q2
        have hcs := cS_lt (SW M F) p1 (s := cd'.toNatClampNeg) (by show swV M F (oN cd'.toNatClampNeg) (F 0 0) = cr'; rw [← hcd]; exact q1.symm) 8192 (by omega)
        obtain ⟨now2, ev2, fr2, cd2, cr2, g2, X2, gx2, z1, z2, z3, z4, z5, z6, z7⟩ := ih (k + 1) m1 m2 best' ev' cr' cd' cr' g' gx' X' hc' hk (by omega) (by omega) (by omega) p3 (by rw [p2]; exact q1) a5 (by rw [a6]; exact p4)
        refine ⟨now2, ev2, fr2, cd2, cr2, g2, X2, gx2, ?_, ?_, z3, z4, z5, z6, fun j h1 h2 h3 => (z7 j h1 h2 h3).trans (a7 j h1 h2 h3)⟩
        · rw [a1 m1, if_neg hle]
          rw [p2] at z1
          exact z1
        · rw [x1, if_pos hlt]
          exact z2
      · have hlt : ¬ least' < fr := by rw [p3, lt32]; omega
        have hle : fr ≤ cr' := by rw [le32]; rw [lt32] at p1; omega
        rw [p2] at x1
        obtain ⟨now2, ev2, fr2, cd2, cr2, g2, X2, gx2, z1, z2, z3, z4, z5, z6, z7⟩ := ih k m1 m2 now ev' fr cd' cr' g' gx' X' hc' (by omega) (by omega) (by omega) (by omega) hn hfr a5 (by rw [a6]; exact p3)
        refine ⟨now2, ev2, fr2, cd2, cr2, g2, X2, gx2, ?_, ?_, z3, z4, z5, z6, fun j h1 h2 h3 => (z7 j h1 h2 h3).trans (a7 j h1 h2 h3)⟩
        · rw [a1 m1, if_pos hle, wd_h (by omega)]
          exact z1
        · rw [x1, if_neg hlt]
          exact z2
end RND
