/-! plain law: one round of a search -/
set_option maxRecDepth 100000
abbrev T3 : Type := Int32 × Int32 × Int32
abbrev code3 (t : T3) : Int32 := 4096 * t.1 + 64 * t.2.1 + t.2.2
abbrev ok3 (t : T3) : Prop := (0 ≤ t.1.toInt ∧ t.1.toInt ≤ 1) ∧ (0 ≤ t.2.1.toInt ∧ t.2.1.toInt ≤ 63) ∧ (0 ≤ t.2.2.toInt ∧ t.2.2.toInt ≤ 63)
abbrev RI : Type := Bool × T3 × XS
def gst (K : Nat) (nx : T3) (nxt : T3 → Int32 → XS → Option RI) (best : T3) (least : Int32) (ξ : XS) : Option RI :=
  b1 (fX2_isPossibleq K (nx.1, nx.2.1, nx.2.2)) fun r => if r = true then b2 (fX9_evaluate K (nx.1, nx.2.1, nx.2.2) ξ) (fun its ξ' => if least ≤ its then nxt best least ξ' else nxt nx its ξ') else (if least ≤ 99999 then nxt best least ξ else nxt nx 99999 ξ)
def G5 (best : T3) (least : Int32) (ξ : XS) : Option RI := some (decide (least < ξ.1 90), best, xI ξ 90 least)
def mv0 (t : T3) (w : Int32) : T3 := (t.1, t.2.1 + w, t.2.2)
def mv1 (t : T3) (w : Int32) : T3 := (t.1, t.2.1 - w, t.2.2)
def mv2 (t : T3) (w : Int32) : T3 := (t.1, t.2.1, t.2.2 + w)
def mv3 (t : T3) (w : Int32) : T3 := (t.1, t.2.1, t.2.2 - w)
def mv4 (t : T3) (w : Int32) : T3 := (1 - t.1, t.2.1, t.2.2)
def Gi4 (K : Nat) (t : T3) (w : Int32) := gst K (mv4 t w) G5
def Gi3 (K : Nat) (t : T3) (w : Int32) := gst K (mv3 t w) (Gi4 K t w)
def Gi2 (K : Nat) (t : T3) (w : Int32) := gst K (mv2 t w) (Gi3 K t w)
def Gi1 (K : Nat) (t : T3) (w : Int32) := gst K (mv1 t w) (Gi2 K t w)
def Gi0 (K : Nat) (t : T3) (w : Int32) := gst K (mv0 t w) (Gi1 K t w)
theorem le_nlt {a b : Int32} : ¬ b ≤ a ↔ a < b := by rw [le32, lt32]; omega
theorem iA5 (K : Nat) (w l : Int32) (t : T3) (ξ : XS) : fX9_improve_L13v5 K w l t.1 t.2.1 t.2.2 ξ = G5 t l ξ := by
  unfold fX9_improve_L13v5 G5 fX9_improve_L100v0
  by_cases c : ξ.1 90 ≤ l
  · rw [if_pos c, decide_eq_false (show ¬ l < ξ.1 90 by rw [← le_nlt]; exact fun h => h c)]
    rw [nmr]
    refine (ga_t (by decide)).trans ?_
    rfl
  · rw [if_neg c, decide_eq_true (le_nlt.mp c)]
    rw [nmr]
    refine (ga_t (by decide)).trans ?_
    rfl
theorem iB5 (K : Nat) (w l : Int32) (t b : T3) (ξ : XS) : fX9_improve_L13v6 K w l t.1 t.2.1 t.2.2 b.1 b.2.1 b.2.2 ξ = G5 b l ξ := by
  unfold fX9_improve_L13v6 G5 fX9_improve_L100v1
  by_cases c : ξ.1 90 ≤ l
  · rw [if_pos c, decide_eq_false (show ¬ l < ξ.1 90 by rw [← le_nlt]; exact fun h => h c)]
    rw [nmr]
    refine (ga_t (by decide)).trans ?_
    rfl
  · rw [if_neg c, decide_eq_true (le_nlt.mp c)]
    rw [nmr]
    refine (ga_t (by decide)).trans ?_
    rfl
theorem iA4 (K : Nat) (w l : Int32) (t : T3) (ξ : XS) : fX9_improve_L13v4 K w l t.1 t.2.1 t.2.2 ξ = Gi4 K t w t l ξ := by
  have h : ∀ (its : Int32) (nx : T3) (ξ : XS), fX9_improve_L67v4 K its w l t.1 t.2.1 t.2.2 nx.1 nx.2.1 nx.2.2 ξ = if l ≤ its then G5 t l ξ else G5 nx its ξ := by
    intro its nx ξ
    unfold fX9_improve_L67v4 fX9_improve_L81v4 fX9_improve_L81v5
    rw [iA5 K w l t ξ, iB5 K w its t nx ξ]
  unfold fX9_improve_L13v4 fX0_lambda_new_4 Gi4 gst
  show b1 (fX2_isPossibleq K ((mv4 t w).1, (mv4 t w).2.1, (mv4 t w).2.2)) (fun r => if r = true then b2 (fX9_evaluate K ((mv4 t w).1, (mv4 t w).2.1, (mv4 t w).2.2) ξ) (fun its ξ' => fX9_improve_L67v4 K its w l t.1 t.2.1 t.2.2 (mv4 t w).1 (mv4 t w).2.1 (mv4 t w).2.2 ξ') else fX9_improve_L67v4 K 99999 w l t.1 t.2.1 t.2.2 (mv4 t w).1 (mv4 t w).2.1 (mv4 t w).2.2 ξ) = _
  simp only [h]
theorem iB4 (K : Nat) (w l : Int32) (t b : T3) (ξ : XS) : fX9_improve_L13v7 K w l t.1 t.2.1 t.2.2 b.1 b.2.1 b.2.2 ξ = Gi4 K t w b l ξ := by
  have h : ∀ (its : Int32) (nx : T3) (ξ : XS), fX9_improve_L67v5 K its w l t.1 t.2.1 t.2.2 b.1 b.2.1 b.2.2 nx.1 nx.2.1 nx.2.2 ξ = if l ≤ its then G5 b l ξ else G5 nx its ξ := by
    intro its nx ξ
    unfold fX9_improve_L67v5 fX9_improve_L81v5
    rw [iB5 K w l t b ξ, iB5 K w its t nx ξ]
  unfold fX9_improve_L13v7 fX0_lambda_new_4 Gi4 gst
  show b1 (fX2_isPossibleq K ((mv4 t w).1, (mv4 t w).2.1, (mv4 t w).2.2)) (fun r => if r = true then b2 (fX9_evaluate K ((mv4 t w).1, (mv4 t w).2.1, (mv4 t w).2.2) ξ) (fun its ξ' => fX9_improve_L67v5 K its w l t.1 t.2.1 t.2.2 b.1 b.2.1 b.2.2 (mv4 t w).1 (mv4 t w).2.1 (mv4 t w).2.2 ξ') else fX9_improve_L67v5 K 99999 w l t.1 t.2.1 t.2.2 b.1 b.2.1 b.2.2 (mv4 t w).1 (mv4 t w).2.1 (mv4 t w).2.2 ξ) = _
  simp only [h]
theorem iA3 (K : Nat) (w l : Int32) (t : T3) (ξ : XS) : fX9_improve_L13v3 K w l t.1 t.2.1 t.2.2 ξ = Gi3 K t w t l ξ := by
  have h : ∀ (its : Int32) (nx : T3) (ξ : XS), fX9_improve_L67v3 K its w l t.1 t.2.1 t.2.2 nx.1 nx.2.1 nx.2.2 ξ = if l ≤ its then Gi4 K t w t l ξ else Gi4 K t w nx its ξ := by
    intro its nx ξ
    unfold fX9_improve_L67v3 fX9_improve_L81v3 fX9_improve_L81v6
    rw [iA4 K w l t ξ, iB4 K w its t nx ξ]
  unfold fX9_improve_L13v3 fX0_lambda_new_3 Gi3 gst
  show b1 (fX2_isPossibleq K ((mv3 t w).1, (mv3 t w).2.1, (mv3 t w).2.2)) (fun r => if r = true then b2 (fX9_evaluate K ((mv3 t w).1, (mv3 t w).2.1, (mv3 t w).2.2) ξ) (fun its ξ' => fX9_improve_L67v3 K its w l t.1 t.2.1 t.2.2 (mv3 t w).1 (mv3 t w).2.1 (mv3 t w).2.2 ξ') else fX9_improve_L67v3 K 99999 w l t.1 t.2.1 t.2.2 (mv3 t w).1 (mv3 t w).2.1 (mv3 t w).2.2 ξ) = _
  simp only [h]
theorem iB3 (K : Nat) (w l : Int32) (t b : T3) (ξ : XS) : fX9_improve_L13v8 K w l t.1 t.2.1 t.2.2 b.1 b.2.1 b.2.2 ξ = Gi3 K t w b l ξ := by
  have h : ∀ (its : Int32) (nx : T3) (ξ : XS), fX9_improve_L67v6 K its w l t.1 t.2.1 t.2.2 b.1 b.2.1 b.2.2 nx.1 nx.2.1 nx.2.2 ξ = if l ≤ its then Gi4 K t w b l ξ else Gi4 K t w nx its ξ := by
    intro its nx ξ
    unfold fX9_improve_L67v6 fX9_improve_L81v6
    rw [iB4 K w l t b ξ, iB4 K w its t nx ξ]
  unfold fX9_improve_L13v8 fX0_lambda_new_3 Gi3 gst
  show b1 (fX2_isPossibleq K ((mv3 t w).1, (mv3 t w).2.1, (mv3 t w).2.2)) (fun r => if r = true then b2 (fX9_evaluate K ((mv3 t w).1, (mv3 t w).2.1, (mv3 t w).2.2) ξ) (fun its ξ' => fX9_improve_L67v6 K its w l t.1 t.2.1 t.2.2 b.1 b.2.1 b.2.2 (mv3 t w).1 (mv3 t w).2.1 (mv3 t w).2.2 ξ') else fX9_improve_L67v6 K 99999 w l t.1 t.2.1 t.2.2 b.1 b.2.1 b.2.2 (mv3 t w).1 (mv3 t w).2.1 (mv3 t w).2.2 ξ) = _
  simp only [h]
theorem iA2 (K : Nat) (w l : Int32) (t : T3) (ξ : XS) : fX9_improve_L13v2 K w l t.1 t.2.1 t.2.2 ξ = Gi2 K t w t l ξ := by
  have h : ∀ (its : Int32) (nx : T3) (ξ : XS), fX9_improve_L67v2 K its w l t.1 t.2.1 t.2.2 nx.1 nx.2.1 nx.2.2 ξ = if l ≤ its then Gi3 K t w t l ξ else Gi3 K t w nx its ξ := by
    intro its nx ξ
    unfold fX9_improve_L67v2 fX9_improve_L81v2 fX9_improve_L81v7
    rw [iA3 K w l t ξ, iB3 K w its t nx ξ]
  unfold fX9_improve_L13v2 fX0_lambda_new_2 Gi2 gst
  show b1 (fX2_isPossibleq K ((mv2 t w).1, (mv2 t w).2.1, (mv2 t w).2.2)) (fun r => if r = true then b2 (fX9_evaluate K ((mv2 t w).1, (mv2 t w).2.1, (mv2 t w).2.2) ξ) (fun its ξ' => fX9_improve_L67v2 K its w l t.1 t.2.1 t.2.2 (mv2 t w).1 (mv2 t w).2.1 (mv2 t w).2.2 ξ') else fX9_improve_L67v2 K 99999 w l t.1 t.2.1 t.2.2 (mv2 t w).1 (mv2 t w).2.1 (mv2 t w).2.2 ξ) = _
  simp only [h]
theorem iB2 (K : Nat) (w l : Int32) (t b : T3) (ξ : XS) : fX9_improve_L13v9 K w l t.1 t.2.1 t.2.2 b.1 b.2.1 b.2.2 ξ = Gi2 K t w b l ξ := by
  have h : ∀ (its : Int32) (nx : T3) (ξ : XS), fX9_improve_L67v7 K its w l t.1 t.2.1 t.2.2 b.1 b.2.1 b.2.2 nx.1 nx.2.1 nx.2.2 ξ = if l ≤ its then Gi3 K t w b l ξ else Gi3 K t w nx its ξ := by
    intro its nx ξ
    unfold fX9_improve_L67v7 fX9_improve_L81v7
    rw [iB3 K w l t b ξ, iB3 K w its t nx ξ]
  unfold fX9_improve_L13v9 fX0_lambda_new_2 Gi2 gst
  show b1 (fX2_isPossibleq K ((mv2 t w).1, (mv2 t w).2.1, (mv2 t w).2.2)) (fun r => if r = true then b2 (fX9_evaluate K ((mv2 t w).1, (mv2 t w).2.1, (mv2 t w).2.2) ξ) (fun its ξ' => fX9_improve_L67v7 K its w l t.1 t.2.1 t.2.2 b.1 b.2.1 b.2.2 (mv2 t w).1 (mv2 t w).2.1 (mv2 t w).2.2 ξ') else fX9_improve_L67v7 K 99999 w l t.1 t.2.1 t.2.2 b.1 b.2.1 b.2.2 (mv2 t w).1 (mv2 t w).2.1 (mv2 t w).2.2 ξ) = _
  simp only [h]
theorem iA1 (K : Nat) (w l : Int32) (t : T3) (ξ : XS) : fX9_improve_L13v1 K w l t.1 t.2.1 t.2.2 ξ = Gi1 K t w t l ξ := by
  have h : ∀ (its : Int32) (nx : T3) (ξ : XS), fX9_improve_L67v1 K its w l t.1 t.2.1 t.2.2 nx.1 nx.2.1 nx.2.2 ξ = if l ≤ its then Gi2 K t w t l ξ else Gi2 K t w nx its ξ := by
    intro its nx ξ
    unfold fX9_improve_L67v1 fX9_improve_L81v1 fX9_improve_L81v8
    rw [iA2 K w l t ξ, iB2 K w its t nx ξ]
  unfold fX9_improve_L13v1 fX0_lambda_new_1 Gi1 gst
  show b1 (fX2_isPossibleq K ((mv1 t w).1, (mv1 t w).2.1, (mv1 t w).2.2)) (fun r => if r = true then b2 (fX9_evaluate K ((mv1 t w).1, (mv1 t w).2.1, (mv1 t w).2.2) ξ) (fun its ξ' => fX9_improve_L67v1 K its w l t.1 t.2.1 t.2.2 (mv1 t w).1 (mv1 t w).2.1 (mv1 t w).2.2 ξ') else fX9_improve_L67v1 K 99999 w l t.1 t.2.1 t.2.2 (mv1 t w).1 (mv1 t w).2.1 (mv1 t w).2.2 ξ) = _
  simp only [h]
theorem iB1 (K : Nat) (w l : Int32) (t b : T3) (ξ : XS) : fX9_improve_L13v10 K w l t.1 t.2.1 t.2.2 b.1 b.2.1 b.2.2 ξ = Gi1 K t w b l ξ := by
  have h : ∀ (its : Int32) (nx : T3) (ξ : XS), fX9_improve_L67v8 K its w l t.1 t.2.1 t.2.2 b.1 b.2.1 b.2.2 nx.1 nx.2.1 nx.2.2 ξ = if l ≤ its then Gi2 K t w b l ξ else Gi2 K t w nx its ξ := by
    intro its nx ξ
    unfold fX9_improve_L67v8 fX9_improve_L81v8
    rw [iB2 K w l t b ξ, iB2 K w its t nx ξ]
  unfold fX9_improve_L13v10 fX0_lambda_new_1 Gi1 gst
  show b1 (fX2_isPossibleq K ((mv1 t w).1, (mv1 t w).2.1, (mv1 t w).2.2)) (fun r => if r = true then b2 (fX9_evaluate K ((mv1 t w).1, (mv1 t w).2.1, (mv1 t w).2.2) ξ) (fun its ξ' => fX9_improve_L67v8 K its w l t.1 t.2.1 t.2.2 b.1 b.2.1 b.2.2 (mv1 t w).1 (mv1 t w).2.1 (mv1 t w).2.2 ξ') else fX9_improve_L67v8 K 99999 w l t.1 t.2.1 t.2.2 b.1 b.2.1 b.2.2 (mv1 t w).1 (mv1 t w).2.1 (mv1 t w).2.2 ξ) = _
  simp only [h]
theorem iA0 (K : Nat) (w l : Int32) (t : T3) (ξ : XS) : fX9_improve_L13v0 K w l t.1 t.2.1 t.2.2 ξ = Gi0 K t w t l ξ := by
  have h : ∀ (its : Int32) (nx : T3) (ξ : XS), fX9_improve_L67v0 K its w l t.1 t.2.1 t.2.2 nx.1 nx.2.1 nx.2.2 ξ = if l ≤ its then Gi1 K t w t l ξ else Gi1 K t w nx its ξ := by
    intro its nx ξ
    unfold fX9_improve_L67v0 fX9_improve_L81v0 fX9_improve_L81v9
    rw [iA1 K w l t ξ, iB1 K w its t nx ξ]
  unfold fX9_improve_L13v0 fX0_lambda_new_0 Gi0 gst
  show b1 (fX2_isPossibleq K ((mv0 t w).1, (mv0 t w).2.1, (mv0 t w).2.2)) (fun r => if r = true then b2 (fX9_evaluate K ((mv0 t w).1, (mv0 t w).2.1, (mv0 t w).2.2) ξ) (fun its ξ' => fX9_improve_L67v0 K its w l t.1 t.2.1 t.2.2 (mv0 t w).1 (mv0 t w).2.1 (mv0 t w).2.2 ξ') else fX9_improve_L67v0 K 99999 w l t.1 t.2.1 t.2.2 (mv0 t w).1 (mv0 t w).2.1 (mv0 t w).2.2 ξ) = _
  simp only [h]
theorem imp0 (K : Nat) (t : T3) (w : Int32) (ξ : XS) : fX9_improve K t w ξ = Gi0 K t w t (ξ.1 90) ξ := by
  unfold fX9_improve
  rw [nmr]
  exact iA0 K w _ t ξ

