/-! the search -/
set_option maxRecDepth 100000
/-- the state behind a call that knows the evaluating cells, and the search's numbers -/
def xmrgS (ξ ξ' : XS) : XS := (fun k => cond (Nat.blt k 70 || Nat.blt 89 k) (ξ'.1 k) (ξ.1 k), ξ'.2.1, ξ'.2.2.1, ξ'.2.2.2.1, ξ.2.2.2.2)
def b3 {α β γ δ : Type} (x : Option (α × β × γ)) (k : α → β → γ → Option δ) : Option δ := match x with
  | some (a, b, c) => k a b c
  | none => none
theorem b3_some {α β γ δ : Type} {x : Option (α × β × γ)} {k : α → β → γ → Option δ} {z : δ} (h : b3 x k = some z) : ∃ a b c, x = some (a, b, c) ∧ k a b c = some z := by
  match x, h with
  | some (a, b, c), h => exact ⟨a, b, c, rfl, h⟩
theorem so_3 {α β γ : Type} {a a' : α} {b b' : β} {c c' : γ} (h : some (a, b, c) = some (a', b', c')) : a = a' ∧ b = b' ∧ c = c' := by
  cases h
  exact ⟨rfl, rfl, rfl⟩
def fX0_lambda_new_0 (K : Nat) (p0 : Int32 × Int32 × Int32) (p1 : Int32) : Option (Int32 × Int32 × Int32) :=
  b1 (fX2_init K p0.1 (p0.2.1 + p1) p0.2.2 ((0 : Int32), (0 : Int32), (0 : Int32))) fun ξ_3 =>
  some (ξ_3.1, ξ_3.2.1, ξ_3.2.2)
set_option maxHeartbeats 4000000 in
set_option maxRecDepth 100000 in
theorem tX0_lambda_new_0 (l : Launch) (D : va_G) (d : Nat → ClassId) (z : ZT) (K : Nat) (o0 : Nat) (p0 : Int32 × Int32 × Int32) (p1 : Int32) (r : (Int32 × Int32 × Int32)) (hf : fX0_lambda_new_0 K p0 p1 = some r) : CRS l yX0_lambda_new_0 (ws_ yX0_lambda_new_0 cX0_lambda_new_0 2 (Option.some (Jvm.ClassFile.FieldType.object "AntennaTuner$Setting"))) (rmc 2 1 3 35) D d z [.ref o0, .int p1] ([(o0, .inr (3, [.int p0.1, .int p0.2.1, .int p0.2.2]))]) (fun u : Nat => u) (fun u => [(o0, .inr (3, [.int p0.1, .int p0.2.1, .int p0.2.2])), (u, .inr (3, [.int r.1, .int r.2.1, .int r.2.2]))]) (fun _ => True) := by
  refine CRS.of (own := RX0) rfl (by decide) (Nat.le_of_ble_eq_true rfl) (Or.inl ⟨_, rfl⟩) ?_
  intro p e s m args below meth c A Q ls S hin hK hP hD hZ hS hA hl hret0
  have hret : ∀ (u : Nat) (x : (Int32 × Int32 × Int32)) (H : Heap) (locs : List Loc) (pc : Nat) (ls' : Array Slot), some x = some r → decode cX0_lambda_new_0 pc = .ok (.areturn, 1) → va_P D CL ([(o0, .inr (3, [.int p0.1, .int p0.2.1, .int p0.2.2])), (u, .inr (3, [.int x.1, .int x.2.1, .int x.2.2]))]) H → va_D A ([(o0, .inr (3, [.int p0.1, .int p0.2.1, .int p0.2.2])), (u, .inr (3, [.int x.1, .int x.2.1, .int x.2.2]))]) → va_S A s.heap H locs → W p l e (rmc 2 1 3 35) s m args below meth c H locs 1 3 Q (F0 m pc ls' [.ref u]) := by
    intro u x H locs pc ls' h9 hdg hP hD hS
    obtain rfl := so_1 h9
    exact hret0 u trivial H locs pc ls' hdg hP hD hS
  have hx := S.1
  have hb := S.2.1
  have hts := S.2.2.2.2
  have hl : lv_has ls 2 [(0, .ref o0), (1, .int p1)] := hl
  unfold fX0_lambda_new_0 at hf
  refine g_new hx hb hts S.2.2.2.1 hK hP hD hS hA (ci := 3) in_X2 tyX2 tyX2_ok q178 q179 q97 rfl (fs := [.int (0 : Int32), .int (0 : Int32), .int (0 : Int32)]) (fun j hj => by rcases (show j = 0 ∨ j = 1 ∨ j = 2 by omega) with rfl | rfl | rfl <;> rfl) (Nat.le_of_ble_eq_true rfl) (Nat.le_of_ble_eq_true rfl) (w1 := fun q => [(o0, .inr (3, [.int p0.1, .int p0.2.1, .int p0.2.2])), (q, .inr (3, [.int (0 : Int32), .int (0 : Int32), .int (0 : Int32)]))]) (fun _ => rfl) dX0_lambda_new_0_0 ?_
  clear hP hD hS
  intro q_1 H hP hD hS
  refine lv_dup hx hb dX0_lambda_new_0_3 rfl ?_
  refine lv_aload_n hx hb dX0_lambda_new_0_4 rfl (lv_at hl 0 rfl) ?_
  refine g_getN hx hb hts S.2.2.2.1 hK hP in_X2 0 rfl rfl 0 (by decide) q185 (fun _ h9 => h9) (v := .int p0.1) rfl dX0_lambda_new_0_5 ?_
  refine lv_aload_n hx hb dX0_lambda_new_0_8 rfl (lv_at hl 0 rfl) ?_
  refine g_getN hx hb hts S.2.2.2.1 hK hP in_X2 0 rfl rfl 1 (by decide) q188 (fun _ h9 => h9) (v := .int p0.2.1) rfl dX0_lambda_new_0_9 ?_
  refine lv_iload_n hx hb dX0_lambda_new_0_12 rfl (lv_at hl 1 rfl) ?_
  refine lv_iadd hx hb dX0_lambda_new_0_13 ?_
  refine lv_aload_n hx hb dX0_lambda_new_0_14 rfl (lv_at hl 0 rfl) ?_
  refine g_getN hx hb hts S.2.2.2.1 hK hP in_X2 0 rfl rfl 2 (by decide) q191 (fun _ h9 => h9) (v := .int p0.2.2) rfl dX0_lambda_new_0_15 ?_
  obtain ⟨ξ_3, h_2, hf⟩ := b1_some hf
  refine run_v0 (wr := [(o0, .inr (3, [.int p0.1, .int p0.2.1, .int p0.2.2]))]) (w' := [(o0, .inr (3, [.int p0.1, .int p0.2.1, .int p0.2.2])), (q_1, .inr (3, [.int ξ_3.1, .int ξ_3.2.1, .int ξ_3.2.2]))]) (va_runI (As := [.int p0.1, .int (p0.2.1 + p1), .int p0.2.2]) (rest := [.ref q_1]) S (tX2_init l D d z q_1 K p0.1 (p0.2.1 + p1) p0.2.2 ((0 : Int32), (0 : Int32), (0 : Int32)) ξ_3 h_2 _) (cwI 3 hts (lw_meth q182) rfl rfl rfl (hts _ q97) (hts _ q180) (hts _ q181) rfl (by decide +kernel) ⟨(Nat.le_of_ble_eq_true rfl), (Nat.le_of_ble_eq_true rfl)⟩) ⟨Pw.blind, fun U hU hW => Pw.cut (tl := []) hK (by rw [List.append_nil]; exact hP) (by rw [List.append_nil]; exact hD) hZ hS hA [1] rfl rfl hU hW⟩ rfl rfl hl.1 rfl (lv_room (Nat.le_of_ble_eq_true rfl)) dX0_lambda_new_0_18 ⟨(Nat.le_of_ble_eq_true rfl), (Nat.le_of_ble_eq_true rfl)⟩) hP hD hS hA [1] [0] [0, 1] rfl rfl rfl rfl (by decide) rfl rfl ?_
  clear hP hD hS
  intro H locs hP hD hS
  clear h_2
  refine W.widen (k := 1) (n := 3) (Nat.le_of_ble_eq_true rfl) (Nat.le_of_ble_eq_true rfl) ?_
  exact hret q_1 _ _ _ _ _ hf dX0_lambda_new_0_21 hP hD hS
def fX0_lambda_new_1 (K : Nat) (p0 : Int32 × Int32 × Int32) (p1 : Int32) : Option (Int32 × Int32 × Int32) :=
  b1 (fX2_init K p0.1 (p0.2.1 - p1) p0.2.2 ((0 : Int32), (0 : Int32), (0 : Int32))) fun ξ_3 =>
  some (ξ_3.1, ξ_3.2.1, ξ_3.2.2)
set_option maxHeartbeats 4000000 in
set_option maxRecDepth 100000 in
theorem tX0_lambda_new_1 (l : Launch) (D : va_G) (d : Nat → ClassId) (z : ZT) (K : Nat) (o0 : Nat) (p0 : Int32 × Int32 × Int32) (p1 : Int32) (r : (Int32 × Int32 × Int32)) (hf : fX0_lambda_new_1 K p0 p1 = some r) : CRS l yX0_lambda_new_1 (ws_ yX0_lambda_new_1 cX0_lambda_new_1 2 (Option.some (Jvm.ClassFile.FieldType.object "AntennaTuner$Setting"))) (rmc 2 1 3 35) D d z [.ref o0, .int p1] ([(o0, .inr (3, [.int p0.1, .int p0.2.1, .int p0.2.2]))]) (fun u : Nat => u) (fun u => [(o0, .inr (3, [.int p0.1, .int p0.2.1, .int p0.2.2])), (u, .inr (3, [.int r.1, .int r.2.1, .int r.2.2]))]) (fun _ => True) := by
  refine CRS.of (own := RX0) rfl (by decide) (Nat.le_of_ble_eq_true rfl) (Or.inl ⟨_, rfl⟩) ?_
  intro p e s m args below meth c A Q ls S hin hK hP hD hZ hS hA hl hret0
  have hret : ∀ (u : Nat) (x : (Int32 × Int32 × Int32)) (H : Heap) (locs : List Loc) (pc : Nat) (ls' : Array Slot), some x = some r → decode cX0_lambda_new_1 pc = .ok (.areturn, 1) → va_P D CL ([(o0, .inr (3, [.int p0.1, .int p0.2.1, .int p0.2.2])), (u, .inr (3, [.int x.1, .int x.2.1, .int x.2.2]))]) H → va_D A ([(o0, .inr (3, [.int p0.1, .int p0.2.1, .int p0.2.2])), (u, .inr (3, [.int x.1, .int x.2.1, .int x.2.2]))]) → va_S A s.heap H locs → W p l e (rmc 2 1 3 35) s m args below meth c H locs 1 3 Q (F0 m pc ls' [.ref u]) := by
    intro u x H locs pc ls' h9 hdg hP hD hS
    obtain rfl := so_1 h9
    exact hret0 u trivial H locs pc ls' hdg hP hD hS
  have hx := S.1
  have hb := S.2.1
  have hts := S.2.2.2.2
  have hl : lv_has ls 2 [(0, .ref o0), (1, .int p1)] := hl
  unfold fX0_lambda_new_1 at hf
  refine g_new hx hb hts S.2.2.2.1 hK hP hD hS hA (ci := 3) in_X2 tyX2 tyX2_ok q178 q179 q97 rfl (fs := [.int (0 : Int32), .int (0 : Int32), .int (0 : Int32)]) (fun j hj => by rcases (show j = 0 ∨ j = 1 ∨ j = 2 by omega) with rfl | rfl | rfl <;> rfl) (Nat.le_of_ble_eq_true rfl) (Nat.le_of_ble_eq_true rfl) (w1 := fun q => [(o0, .inr (3, [.int p0.1, .int p0.2.1, .int p0.2.2])), (q, .inr (3, [.int (0 : Int32), .int (0 : Int32), .int (0 : Int32)]))]) (fun _ => rfl) dX0_lambda_new_1_0 ?_
  clear hP hD hS
  intro q_1 H hP hD hS
  refine lv_dup hx hb dX0_lambda_new_1_3 rfl ?_
  refine lv_aload_n hx hb dX0_lambda_new_1_4 rfl (lv_at hl 0 rfl) ?_
  refine g_getN hx hb hts S.2.2.2.1 hK hP in_X2 0 rfl rfl 0 (by decide) q185 (fun _ h9 => h9) (v := .int p0.1) rfl dX0_lambda_new_1_5 ?_
  refine lv_aload_n hx hb dX0_lambda_new_1_8 rfl (lv_at hl 0 rfl) ?_
  refine g_getN hx hb hts S.2.2.2.1 hK hP in_X2 0 rfl rfl 1 (by decide) q188 (fun _ h9 => h9) (v := .int p0.2.1) rfl dX0_lambda_new_1_9 ?_
  refine lv_iload_n hx hb dX0_lambda_new_1_12 rfl (lv_at hl 1 rfl) ?_
  refine lv_isub hx hb dX0_lambda_new_1_13 ?_
  refine lv_aload_n hx hb dX0_lambda_new_1_14 rfl (lv_at hl 0 rfl) ?_
  refine g_getN hx hb hts S.2.2.2.1 hK hP in_X2 0 rfl rfl 2 (by decide) q191 (fun _ h9 => h9) (v := .int p0.2.2) rfl dX0_lambda_new_1_15 ?_
  obtain ⟨ξ_3, h_2, hf⟩ := b1_some hf
  refine run_v0 (wr := [(o0, .inr (3, [.int p0.1, .int p0.2.1, .int p0.2.2]))]) (w' := [(o0, .inr (3, [.int p0.1, .int p0.2.1, .int p0.2.2])), (q_1, .inr (3, [.int ξ_3.1, .int ξ_3.2.1, .int ξ_3.2.2]))]) (va_runI (As := [.int p0.1, .int (p0.2.1 - p1), .int p0.2.2]) (rest := [.ref q_1]) S (tX2_init l D d z q_1 K p0.1 (p0.2.1 - p1) p0.2.2 ((0 : Int32), (0 : Int32), (0 : Int32)) ξ_3 h_2 _) (cwI 3 hts (lw_meth q182) rfl rfl rfl (hts _ q97) (hts _ q180) (hts _ q181) rfl (by decide +kernel) ⟨(Nat.le_of_ble_eq_true rfl), (Nat.le_of_ble_eq_true rfl)⟩) ⟨Pw.blind, fun U hU hW => Pw.cut (tl := []) hK (by rw [List.append_nil]; exact hP) (by rw [List.append_nil]; exact hD) hZ hS hA [1] rfl rfl hU hW⟩ rfl rfl hl.1 rfl (lv_room (Nat.le_of_ble_eq_true rfl)) dX0_lambda_new_1_18 ⟨(Nat.le_of_ble_eq_true rfl), (Nat.le_of_ble_eq_true rfl)⟩) hP hD hS hA [1] [0] [0, 1] rfl rfl rfl rfl (by decide) rfl rfl ?_
  clear hP hD hS
  intro H locs hP hD hS
  clear h_2
  refine W.widen (k := 1) (n := 3) (Nat.le_of_ble_eq_true rfl) (Nat.le_of_ble_eq_true rfl) ?_
  exact hret q_1 _ _ _ _ _ hf dX0_lambda_new_1_21 hP hD hS
def fX0_lambda_new_2 (K : Nat) (p0 : Int32 × Int32 × Int32) (p1 : Int32) : Option (Int32 × Int32 × Int32) :=
  b1 (fX2_init K p0.1 p0.2.1 (p0.2.2 + p1) ((0 : Int32), (0 : Int32), (0 : Int32))) fun ξ_3 =>
  some (ξ_3.1, ξ_3.2.1, ξ_3.2.2)
set_option maxHeartbeats 4000000 in
set_option maxRecDepth 100000 in
theorem tX0_lambda_new_2 (l : Launch) (D : va_G) (d : Nat → ClassId) (z : ZT) (K : Nat) (o0 : Nat) (p0 : Int32 × Int32 × Int32) (p1 : Int32) (r : (Int32 × Int32 × Int32)) (hf : fX0_lambda_new_2 K p0 p1 = some r) : CRS l yX0_lambda_new_2 (ws_ yX0_lambda_new_2 cX0_lambda_new_2 2 (Option.some (Jvm.ClassFile.FieldType.object "AntennaTuner$Setting"))) (rmc 2 1 3 35) D d z [.ref o0, .int p1] ([(o0, .inr (3, [.int p0.1, .int p0.2.1, .int p0.2.2]))]) (fun u : Nat => u) (fun u => [(o0, .inr (3, [.int p0.1, .int p0.2.1, .int p0.2.2])), (u, .inr (3, [.int r.1, .int r.2.1, .int r.2.2]))]) (fun _ => True) := by
  refine CRS.of (own := RX0) rfl (by decide) (Nat.le_of_ble_eq_true rfl) (Or.inl ⟨_, rfl⟩) ?_
  intro p e s m args below meth c A Q ls S hin hK hP hD hZ hS hA hl hret0
  have hret : ∀ (u : Nat) (x : (Int32 × Int32 × Int32)) (H : Heap) (locs : List Loc) (pc : Nat) (ls' : Array Slot), some x = some r → decode cX0_lambda_new_2 pc = .ok (.areturn, 1) → va_P D CL ([(o0, .inr (3, [.int p0.1, .int p0.2.1, .int p0.2.2])), (u, .inr (3, [.int x.1, .int x.2.1, .int x.2.2]))]) H → va_D A ([(o0, .inr (3, [.int p0.1, .int p0.2.1, .int p0.2.2])), (u, .inr (3, [.int x.1, .int x.2.1, .int x.2.2]))]) → va_S A s.heap H locs → W p l e (rmc 2 1 3 35) s m args below meth c H locs 1 3 Q (F0 m pc ls' [.ref u]) := by
    intro u x H locs pc ls' h9 hdg hP hD hS
    obtain rfl := so_1 h9
    exact hret0 u trivial H locs pc ls' hdg hP hD hS
  have hx := S.1
  have hb := S.2.1
  have hts := S.2.2.2.2
  have hl : lv_has ls 2 [(0, .ref o0), (1, .int p1)] := hl
  unfold fX0_lambda_new_2 at hf
  refine g_new hx hb hts S.2.2.2.1 hK hP hD hS hA (ci := 3) in_X2 tyX2 tyX2_ok q178 q179 q97 rfl (fs := [.int (0 : Int32), .int (0 : Int32), .int (0 : Int32)]) (fun j hj => by rcases (show j = 0 ∨ j = 1 ∨ j = 2 by omega) with rfl | rfl | rfl <;> rfl) (Nat.le_of_ble_eq_true rfl) (Nat.le_of_ble_eq_true rfl) (w1 := fun q => [(o0, .inr (3, [.int p0.1, .int p0.2.1, .int p0.2.2])), (q, .inr (3, [.int (0 : Int32), .int (0 : Int32), .int (0 : Int32)]))]) (fun _ => rfl) dX0_lambda_new_2_0 ?_
  clear hP hD hS
  intro q_1 H hP hD hS
  refine lv_dup hx hb dX0_lambda_new_2_3 rfl ?_
  refine lv_aload_n hx hb dX0_lambda_new_2_4 rfl (lv_at hl 0 rfl) ?_
  refine g_getN hx hb hts S.2.2.2.1 hK hP in_X2 0 rfl rfl 0 (by decide) q185 (fun _ h9 => h9) (v := .int p0.1) rfl dX0_lambda_new_2_5 ?_
  refine lv_aload_n hx hb dX0_lambda_new_2_8 rfl (lv_at hl 0 rfl) ?_
  refine g_getN hx hb hts S.2.2.2.1 hK hP in_X2 0 rfl rfl 1 (by decide) q188 (fun _ h9 => h9) (v := .int p0.2.1) rfl dX0_lambda_new_2_9 ?_
  refine lv_aload_n hx hb dX0_lambda_new_2_12 rfl (lv_at hl 0 rfl) ?_
  refine g_getN hx hb hts S.2.2.2.1 hK hP in_X2 0 rfl rfl 2 (by decide) q191 (fun _ h9 => h9) (v := .int p0.2.2) rfl dX0_lambda_new_2_13 ?_
  refine lv_iload_n hx hb dX0_lambda_new_2_16 rfl (lv_at hl 1 rfl) ?_
  refine lv_iadd hx hb dX0_lambda_new_2_17 ?_
  obtain ⟨ξ_3, h_2, hf⟩ := b1_some hf
  refine run_v0 (wr := [(o0, .inr (3, [.int p0.1, .int p0.2.1, .int p0.2.2]))]) (w' := [(o0, .inr (3, [.int p0.1, .int p0.2.1, .int p0.2.2])), (q_1, .inr (3, [.int ξ_3.1, .int ξ_3.2.1, .int ξ_3.2.2]))]) (va_runI (As := [.int p0.1, .int p0.2.1, .int (p0.2.2 + p1)]) (rest := [.ref q_1]) S (tX2_init l D d z q_1 K p0.1 p0.2.1 (p0.2.2 + p1) ((0 : Int32), (0 : Int32), (0 : Int32)) ξ_3 h_2 _) (cwI 3 hts (lw_meth q182) rfl rfl rfl (hts _ q97) (hts _ q180) (hts _ q181) rfl (by decide +kernel) ⟨(Nat.le_of_ble_eq_true rfl), (Nat.le_of_ble_eq_true rfl)⟩) ⟨Pw.blind, fun U hU hW => Pw.cut (tl := []) hK (by rw [List.append_nil]; exact hP) (by rw [List.append_nil]; exact hD) hZ hS hA [1] rfl rfl hU hW⟩ rfl rfl hl.1 rfl (lv_room (Nat.le_of_ble_eq_true rfl)) dX0_lambda_new_2_18 ⟨(Nat.le_of_ble_eq_true rfl), (Nat.le_of_ble_eq_true rfl)⟩) hP hD hS hA [1] [0] [0, 1] rfl rfl rfl rfl (by decide) rfl rfl ?_
  clear hP hD hS
  intro H locs hP hD hS
  clear h_2
  refine W.widen (k := 1) (n := 3) (Nat.le_of_ble_eq_true rfl) (Nat.le_of_ble_eq_true rfl) ?_
  exact hret q_1 _ _ _ _ _ hf dX0_lambda_new_2_21 hP hD hS
def fX0_lambda_new_3 (K : Nat) (p0 : Int32 × Int32 × Int32) (p1 : Int32) : Option (Int32 × Int32 × Int32) :=
  b1 (fX2_init K p0.1 p0.2.1 (p0.2.2 - p1) ((0 : Int32), (0 : Int32), (0 : Int32))) fun ξ_3 =>
  some (ξ_3.1, ξ_3.2.1, ξ_3.2.2)
set_option maxHeartbeats 4000000 in
set_option maxRecDepth 100000 in
theorem tX0_lambda_new_3 (l : Launch) (D : va_G) (d : Nat → ClassId) (z : ZT) (K : Nat) (o0 : Nat) (p0 : Int32 × Int32 × Int32) (p1 : Int32) (r : (Int32 × Int32 × Int32)) (hf : fX0_lambda_new_3 K p0 p1 = some r) : CRS l yX0_lambda_new_3 (ws_ yX0_lambda_new_3 cX0_lambda_new_3 2 (Option.some (Jvm.ClassFile.FieldType.object "AntennaTuner$Setting"))) (rmc 2 1 3 35) D d z [.ref o0, .int p1] ([(o0, .inr (3, [.int p0.1, .int p0.2.1, .int p0.2.2]))]) (fun u : Nat => u) (fun u => [(o0, .inr (3, [.int p0.1, .int p0.2.1, .int p0.2.2])), (u, .inr (3, [.int r.1, .int r.2.1, .int r.2.2]))]) (fun _ => True) := by
  refine CRS.of (own := RX0) rfl (by decide) (Nat.le_of_ble_eq_true rfl) (Or.inl ⟨_, rfl⟩) ?_
  intro p e s m args below meth c A Q ls S hin hK hP hD hZ hS hA hl hret0
  have hret : ∀ (u : Nat) (x : (Int32 × Int32 × Int32)) (H : Heap) (locs : List Loc) (pc : Nat) (ls' : Array Slot), some x = some r → decode cX0_lambda_new_3 pc = .ok (.areturn, 1) → va_P D CL ([(o0, .inr (3, [.int p0.1, .int p0.2.1, .int p0.2.2])), (u, .inr (3, [.int x.1, .int x.2.1, .int x.2.2]))]) H → va_D A ([(o0, .inr (3, [.int p0.1, .int p0.2.1, .int p0.2.2])), (u, .inr (3, [.int x.1, .int x.2.1, .int x.2.2]))]) → va_S A s.heap H locs → W p l e (rmc 2 1 3 35) s m args below meth c H locs 1 3 Q (F0 m pc ls' [.ref u]) := by
    intro u x H locs pc ls' h9 hdg hP hD hS
    obtain rfl := so_1 h9
    exact hret0 u trivial H locs pc ls' hdg hP hD hS
  have hx := S.1
  have hb := S.2.1
  have hts := S.2.2.2.2
  have hl : lv_has ls 2 [(0, .ref o0), (1, .int p1)] := hl
  unfold fX0_lambda_new_3 at hf
  refine g_new hx hb hts S.2.2.2.1 hK hP hD hS hA (ci := 3) in_X2 tyX2 tyX2_ok q178 q179 q97 rfl (fs := [.int (0 : Int32), .int (0 : Int32), .int (0 : Int32)]) (fun j hj => by rcases (show j = 0 ∨ j = 1 ∨ j = 2 by omega) with rfl | rfl | rfl <;> rfl) (Nat.le_of_ble_eq_true rfl) (Nat.le_of_ble_eq_true rfl) (w1 := fun q => [(o0, .inr (3, [.int p0.1, .int p0.2.1, .int p0.2.2])), (q, .inr (3, [.int (0 : Int32), .int (0 : Int32), .int (0 : Int32)]))]) (fun _ => rfl) dX0_lambda_new_3_0 ?_
  clear hP hD hS
  intro q_1 H hP hD hS
  refine lv_dup hx hb dX0_lambda_new_3_3 rfl ?_
  refine lv_aload_n hx hb dX0_lambda_new_3_4 rfl (lv_at hl 0 rfl) ?_
  refine g_getN hx hb hts S.2.2.2.1 hK hP in_X2 0 rfl rfl 0 (by decide) q185 (fun _ h9 => h9) (v := .int p0.1) rfl dX0_lambda_new_3_5 ?_
  refine lv_aload_n hx hb dX0_lambda_new_3_8 rfl (lv_at hl 0 rfl) ?_
  refine g_getN hx hb hts S.2.2.2.1 hK hP in_X2 0 rfl rfl 1 (by decide) q188 (fun _ h9 => h9) (v := .int p0.2.1) rfl dX0_lambda_new_3_9 ?_
  refine lv_aload_n hx hb dX0_lambda_new_3_12 rfl (lv_at hl 0 rfl) ?_
  refine g_getN hx hb hts S.2.2.2.1 hK hP in_X2 0 rfl rfl 2 (by decide) q191 (fun _ h9 => h9) (v := .int p0.2.2) rfl dX0_lambda_new_3_13 ?_
  refine lv_iload_n hx hb dX0_lambda_new_3_16 rfl (lv_at hl 1 rfl) ?_
  refine lv_isub hx hb dX0_lambda_new_3_17 ?_
  obtain ⟨ξ_3, h_2, hf⟩ := b1_some hf
  refine run_v0 (wr := [(o0, .inr (3, [.int p0.1, .int p0.2.1, .int p0.2.2]))]) (w' := [(o0, .inr (3, [.int p0.1, .int p0.2.1, .int p0.2.2])), (q_1, .inr (3, [.int ξ_3.1, .int ξ_3.2.1, .int ξ_3.2.2]))]) (va_runI (As := [.int p0.1, .int p0.2.1, .int (p0.2.2 - p1)]) (rest := [.ref q_1]) S (tX2_init l D d z q_1 K p0.1 p0.2.1 (p0.2.2 - p1) ((0 : Int32), (0 : Int32), (0 : Int32)) ξ_3 h_2 _) (cwI 3 hts (lw_meth q182) rfl rfl rfl (hts _ q97) (hts _ q180) (hts _ q181) rfl (by decide +kernel) ⟨(Nat.le_of_ble_eq_true rfl), (Nat.le_of_ble_eq_true rfl)⟩) ⟨Pw.blind, fun U hU hW => Pw.cut (tl := []) hK (by rw [List.append_nil]; exact hP) (by rw [List.append_nil]; exact hD) hZ hS hA [1] rfl rfl hU hW⟩ rfl rfl hl.1 rfl (lv_room (Nat.le_of_ble_eq_true rfl)) dX0_lambda_new_3_18 ⟨(Nat.le_of_ble_eq_true rfl), (Nat.le_of_ble_eq_true rfl)⟩) hP hD hS hA [1] [0] [0, 1] rfl rfl rfl rfl (by decide) rfl rfl ?_
  clear hP hD hS
  intro H locs hP hD hS
  clear h_2
  refine W.widen (k := 1) (n := 3) (Nat.le_of_ble_eq_true rfl) (Nat.le_of_ble_eq_true rfl) ?_
  exact hret q_1 _ _ _ _ _ hf dX0_lambda_new_3_21 hP hD hS
def fX0_lambda_new_4 (K : Nat) (p0 : Int32 × Int32 × Int32) (p1 : Int32) : Option (Int32 × Int32 × Int32) :=
  b1 (fX2_init K ((1 : Int32) - p0.1) p0.2.1 p0.2.2 ((0 : Int32), (0 : Int32), (0 : Int32))) fun ξ_3 =>
  some (ξ_3.1, ξ_3.2.1, ξ_3.2.2)
set_option maxHeartbeats 4000000 in
set_option maxRecDepth 100000 in
theorem tX0_lambda_new_4 (l : Launch) (D : va_G) (d : Nat → ClassId) (z : ZT) (K : Nat) (o0 : Nat) (p0 : Int32 × Int32 × Int32) (p1 : Int32) (r : (Int32 × Int32 × Int32)) (hf : fX0_lambda_new_4 K p0 p1 = some r) : CRS l yX0_lambda_new_4 (ws_ yX0_lambda_new_4 cX0_lambda_new_4 2 (Option.some (Jvm.ClassFile.FieldType.object "AntennaTuner$Setting"))) (rmc 2 1 3 35) D d z [.ref o0, .int p1] ([(o0, .inr (3, [.int p0.1, .int p0.2.1, .int p0.2.2]))]) (fun u : Nat => u) (fun u => [(o0, .inr (3, [.int p0.1, .int p0.2.1, .int p0.2.2])), (u, .inr (3, [.int r.1, .int r.2.1, .int r.2.2]))]) (fun _ => True) := by
  refine CRS.of (own := RX0) rfl (by decide) (Nat.le_of_ble_eq_true rfl) (Or.inl ⟨_, rfl⟩) ?_
  intro p e s m args below meth c A Q ls S hin hK hP hD hZ hS hA hl hret0
  have hret : ∀ (u : Nat) (x : (Int32 × Int32 × Int32)) (H : Heap) (locs : List Loc) (pc : Nat) (ls' : Array Slot), some x = some r → decode cX0_lambda_new_4 pc = .ok (.areturn, 1) → va_P D CL ([(o0, .inr (3, [.int p0.1, .int p0.2.1, .int p0.2.2])), (u, .inr (3, [.int x.1, .int x.2.1, .int x.2.2]))]) H → va_D A ([(o0, .inr (3, [.int p0.1, .int p0.2.1, .int p0.2.2])), (u, .inr (3, [.int x.1, .int x.2.1, .int x.2.2]))]) → va_S A s.heap H locs → W p l e (rmc 2 1 3 35) s m args below meth c H locs 1 3 Q (F0 m pc ls' [.ref u]) := by
    intro u x H locs pc ls' h9 hdg hP hD hS
    obtain rfl := so_1 h9
    exact hret0 u trivial H locs pc ls' hdg hP hD hS
  have hx := S.1
  have hb := S.2.1
  have hts := S.2.2.2.2
  have hl : lv_has ls 2 [(0, .ref o0), (1, .int p1)] := hl
  unfold fX0_lambda_new_4 at hf
  refine g_new hx hb hts S.2.2.2.1 hK hP hD hS hA (ci := 3) in_X2 tyX2 tyX2_ok q178 q179 q97 rfl (fs := [.int (0 : Int32), .int (0 : Int32), .int (0 : Int32)]) (fun j hj => by rcases (show j = 0 ∨ j = 1 ∨ j = 2 by omega) with rfl | rfl | rfl <;> rfl) (Nat.le_of_ble_eq_true rfl) (Nat.le_of_ble_eq_true rfl) (w1 := fun q => [(o0, .inr (3, [.int p0.1, .int p0.2.1, .int p0.2.2])), (q, .inr (3, [.int (0 : Int32), .int (0 : Int32), .int (0 : Int32)]))]) (fun _ => rfl) dX0_lambda_new_4_0 ?_
  clear hP hD hS
  intro q_1 H hP hD hS
  refine lv_dup hx hb dX0_lambda_new_4_3 rfl ?_
  refine lv_iconst (v := 1) hx hb dX0_lambda_new_4_4 (by decide) ?_
  refine lv_aload_n hx hb dX0_lambda_new_4_5 rfl (lv_at hl 0 rfl) ?_
  refine g_getN hx hb hts S.2.2.2.1 hK hP in_X2 0 rfl rfl 0 (by decide) q185 (fun _ h9 => h9) (v := .int p0.1) rfl dX0_lambda_new_4_6 ?_
  refine lv_isub hx hb dX0_lambda_new_4_9 ?_
  refine lv_aload_n hx hb dX0_lambda_new_4_10 rfl (lv_at hl 0 rfl) ?_
  refine g_getN hx hb hts S.2.2.2.1 hK hP in_X2 0 rfl rfl 1 (by decide) q188 (fun _ h9 => h9) (v := .int p0.2.1) rfl dX0_lambda_new_4_11 ?_
  refine lv_aload_n hx hb dX0_lambda_new_4_14 rfl (lv_at hl 0 rfl) ?_
  refine g_getN hx hb hts S.2.2.2.1 hK hP in_X2 0 rfl rfl 2 (by decide) q191 (fun _ h9 => h9) (v := .int p0.2.2) rfl dX0_lambda_new_4_15 ?_
  obtain ⟨ξ_3, h_2, hf⟩ := b1_some hf
  refine run_v0 (wr := [(o0, .inr (3, [.int p0.1, .int p0.2.1, .int p0.2.2]))]) (w' := [(o0, .inr (3, [.int p0.1, .int p0.2.1, .int p0.2.2])), (q_1, .inr (3, [.int ξ_3.1, .int ξ_3.2.1, .int ξ_3.2.2]))]) (va_runI (As := [.int ((1 : Int32) - p0.1), .int p0.2.1, .int p0.2.2]) (rest := [.ref q_1]) S (tX2_init l D d z q_1 K ((1 : Int32) - p0.1) p0.2.1 p0.2.2 ((0 : Int32), (0 : Int32), (0 : Int32)) ξ_3 h_2 _) (cwI 3 hts (lw_meth q182) rfl rfl rfl (hts _ q97) (hts _ q180) (hts _ q181) rfl (by decide +kernel) ⟨(Nat.le_of_ble_eq_true rfl), (Nat.le_of_ble_eq_true rfl)⟩) ⟨Pw.blind, fun U hU hW => Pw.cut (tl := []) hK (by rw [List.append_nil]; exact hP) (by rw [List.append_nil]; exact hD) hZ hS hA [1] rfl rfl hU hW⟩ rfl rfl hl.1 rfl (lv_room (Nat.le_of_ble_eq_true rfl)) dX0_lambda_new_4_18 ⟨(Nat.le_of_ble_eq_true rfl), (Nat.le_of_ble_eq_true rfl)⟩) hP hD hS hA [1] [0] [0, 1] rfl rfl rfl rfl (by decide) rfl rfl ?_
  clear hP hD hS
  intro H locs hP hD hS
  clear h_2
  refine W.widen (k := 1) (n := 3) (Nat.le_of_ble_eq_true rfl) (Nat.le_of_ble_eq_true rfl) ?_
  exact hret q_1 _ _ _ _ _ hf dX0_lambda_new_4_21 hP hD hS
def fX2_codeq (K : Nat) (μ : Int32 × Int32 × Int32) : Option Int32 :=
  some ((((4096 : Int32) * μ.1) + ((64 : Int32) * μ.2.1)) + μ.2.2)
set_option maxHeartbeats 4000000 in
set_option maxRecDepth 100000 in
theorem tX2_codeq (l : Launch) (D : va_G) (d : Nat → ClassId) (z : ZT) (o : Nat) (K : Nat) (μ : Int32 × Int32 × Int32) (r : Int32) (hf : fX2_codeq K μ = some r) : CI l yX2_code (ws_ yX2_code cX2_code 1 (Option.some Jvm.ClassFile.FieldType.int)) (rmc 0 0 0 0) D d z [.ref o] (SP o μ) r (SP o μ) := by
  refine CI.of2 (own := RX2) rfl (by decide) (Nat.le_of_ble_eq_true rfl) rfl ?_
  intro p e s m args below meth c A Q ls S hin hK hP hD hZ hS hA hl hret0
  have hret : ∀ (x : Int32) (H : Heap) (locs : List Loc) (pc : Nat) (ls' : Array Slot), some x = some r → decode cX2_code pc = .ok (.ireturn, 1) → va_P D CL (SP o μ) H → va_D A (SP o μ) → va_S A s.heap H locs → W p l e (rmc 0 0 0 0) s m args below meth c H locs 0 0 Q (F0 m pc ls' [.int x]) := by
    intro x H locs pc ls' h9 hdg hP hD hS
    obtain rfl := so_1 h9
    exact hret0 H locs pc ls' hdg hP hD hS
  have hx := S.1
  have hb := S.2.1
  have hts := S.2.2.2.2
  have hl : lv_has ls 1 [(0, .ref o)] := hl
  unfold fX2_codeq at hf
  refine lv_sipush (v := 4096) hx hb dX2_code_0 (by decide) ?_
  refine lv_aload_n hx hb dX2_code_3 rfl (lv_at hl 0 rfl) ?_
  refine g_get hx hb hts S.2.2.2.1 hK hP in_X2 0 rfl rfl 0 (by decide) q184 (fun _ h9 => h9) (v := .int μ.1) rfl dX2_code_4 ?_
  refine lv_imul hx hb dX2_code_7 ?_
  refine lv_bipush (v := 64) hx hb dX2_code_8 (by decide) ?_
  refine lv_aload_n hx hb dX2_code_10 rfl (lv_at hl 0 rfl) ?_
  refine g_get hx hb hts S.2.2.2.1 hK hP in_X2 0 rfl rfl 1 (by decide) q186 (fun _ h9 => h9) (v := .int μ.2.1) rfl dX2_code_11 ?_
  refine lv_imul hx hb dX2_code_14 ?_
  refine lv_iadd hx hb dX2_code_15 ?_
  refine lv_aload_n hx hb dX2_code_16 rfl (lv_at hl 0 rfl) ?_
  refine g_get hx hb hts S.2.2.2.1 hK hP in_X2 0 rfl rfl 2 (by decide) q189 (fun _ h9 => h9) (v := .int μ.2.2) rfl dX2_code_17 ?_
  refine lv_iadd hx hb dX2_code_20 ?_
  refine W.widen (k := 0) (n := 0) (Nat.le_of_ble_eq_true rfl) (Nat.le_of_ble_eq_true rfl) ?_
  exact hret _ _ _ _ _ hf dX2_code_21 hP hD hS
def fX2_isPossibleq (K : Nat) (μ : Int32 × Int32 × Int32) : Option Bool :=
  b1 (fX0_isIn K μ.2.1 (0 : Int32) (63 : Int32)) fun r_1 =>
  if r_1 = true then
    b1 (fX0_isIn K μ.2.2 (0 : Int32) (63 : Int32)) fun r_4 =>
    if r_4 = true then
      some true
    else
      some false
  else
    some false
set_option maxHeartbeats 4000000 in
set_option maxRecDepth 100000 in
theorem tX2_isPossibleq (l : Launch) (D : va_G) (d : Nat → ClassId) (z : ZT) (o : Nat) (K : Nat) (μ : Int32 × Int32 × Int32) (r : Bool) (hf : fX2_isPossibleq K μ = some r) : CI l yX2_isPossible (ws_ yX2_isPossible cX2_isPossible 1 (Option.some Jvm.ClassFile.FieldType.boolean)) (rmc 1 0 0 22) D d z [.ref o] (SP o μ) (bi r) (SP o μ) := by
  refine CI.of2 (own := RX2) rfl (by decide) (Nat.le_of_ble_eq_true rfl) (bi_nar r) ?_
  intro p e s m args below meth c A Q ls S hin hK hP hD hZ hS hA hl hret0
  have hret : ∀ (x : Bool) (H : Heap) (locs : List Loc) (pc : Nat) (ls' : Array Slot), some x = some r → decode cX2_isPossible pc = .ok (.ireturn, 1) → va_P D CL (SP o μ) H → va_D A (SP o μ) → va_S A s.heap H locs → W p l e (rmc 1 0 0 22) s m args below meth c H locs 0 0 Q (F0 m pc ls' [.int (bi x)]) := by
    intro x H locs pc ls' h9 hdg hP hD hS
    obtain rfl := so_1 h9
    exact hret0 H locs pc ls' hdg hP hD hS
  have hx := S.1
  have hb := S.2.1
  have hts := S.2.2.2.2
  have hl : lv_has ls 1 [(0, .ref o)] := hl
  unfold fX2_isPossibleq at hf
  refine lv_aload_n hx hb dX2_isPossible_0 rfl (lv_at hl 0 rfl) ?_
  refine g_get hx hb hts S.2.2.2.1 hK hP in_X2 0 rfl rfl 1 (by decide) q186 (fun _ h9 => h9) (v := .int μ.2.1) rfl dX2_isPossible_1 ?_
  refine lv_iconst (v := 0) hx hb dX2_isPossible_4 (by decide) ?_
  refine lv_bipush (v := 63) hx hb dX2_isPossible_5 (by decide) ?_
  obtain ⟨r_1, h_2, hf⟩ := b1_some hf
  refine si_callN S (tX0_isIn l K μ.2.1 (0 : Int32) (63 : Int32) _ h_2) ⟨va_cnB 3 hts (lw_meth q333) rfl rfl rfl (va_Nw.use_ hK q1271) (hts _ q94) (by decide +kernel) ⟨(Nat.le_of_ble_eq_true rfl), (Nat.le_of_ble_eq_true rfl)⟩, hts _ q332, trivial⟩ rfl hl.1 rfl (Nat.le_of_ble_eq_true rfl) ⟨(Nat.le_of_ble_eq_true rfl), (Nat.le_of_ble_eq_true rfl)⟩ dX2_isPossible_7 ?_
  clear h_2
  refine lv_if_eq (tgt := 30) hx hb dX2_isPossible_10 (by decide) (fun c_3 => ?_) (fun c_3 => ?_)
  · replace hf := it_f hf (bi_e0 c_3)
    clear c_3
    refine lv_iconst (v := 0) hx hb dX2_isPossible_30 (by decide) ?_
    refine W.widen (k := 0) (n := 0) (Nat.le_of_ble_eq_true rfl) (Nat.le_of_ble_eq_true rfl) ?_
    exact hret _ _ _ _ _ hf dX2_isPossible_31 hP hD hS
  · replace hf := it_t hf (bi_n0 c_3)
    clear c_3
    refine lv_aload_n hx hb dX2_isPossible_13 rfl (lv_at hl 0 rfl) ?_
    refine g_get hx hb hts S.2.2.2.1 hK hP in_X2 0 rfl rfl 2 (by decide) q189 (fun _ h9 => h9) (v := .int μ.2.2) rfl dX2_isPossible_14 ?_
    refine lv_iconst (v := 0) hx hb dX2_isPossible_17 (by decide) ?_
    refine lv_bipush (v := 63) hx hb dX2_isPossible_18 (by decide) ?_
    obtain ⟨r_4, h_5, hf⟩ := b1_some hf
    refine si_callN S (tX0_isIn l K μ.2.2 (0 : Int32) (63 : Int32) _ h_5) ⟨va_cnB 3 hts (lw_meth q333) rfl rfl rfl (va_Nw.use_ hK q1271) (hts _ q94) (by decide +kernel) ⟨(Nat.le_of_ble_eq_true rfl), (Nat.le_of_ble_eq_true rfl)⟩, hts _ q332, trivial⟩ rfl hl.1 rfl (Nat.le_of_ble_eq_true rfl) ⟨(Nat.le_of_ble_eq_true rfl), (Nat.le_of_ble_eq_true rfl)⟩ dX2_isPossible_20 ?_
    clear h_5
    refine lv_if_eq (tgt := 30) hx hb dX2_isPossible_23 (by decide) (fun c_6 => ?_) (fun c_6 => ?_)
    · replace hf := it_f hf (bi_e0 c_6)
      clear c_6
      refine lv_iconst (v := 0) hx hb dX2_isPossible_30 (by decide) ?_
      refine W.widen (k := 0) (n := 0) (Nat.le_of_ble_eq_true rfl) (Nat.le_of_ble_eq_true rfl) ?_
      exact hret _ _ _ _ _ hf dX2_isPossible_31 hP hD hS
    · replace hf := it_t hf (bi_n0 c_6)
      clear c_6
      refine lv_iconst (v := 1) hx hb dX2_isPossible_26 (by decide) ?_
      refine lv_goto (tgt := 31) hx hb dX2_isPossible_27 (by decide) ?_
      refine W.widen (k := 0) (n := 0) (Nat.le_of_ble_eq_true rfl) (Nat.le_of_ble_eq_true rfl) ?_
      exact hret _ _ _ _ _ hf dX2_isPossible_31 hP hD hS
def fX9_evaluate (K : Nat) (p0 : (Int32 × Int32 × Int32)) (μ : XS) : Option (Int32 × XS) :=
  nm (xI μ 91 ((μ.1 91) + (1 : Int32))) fun ξ_1 =>
  b1 (fX2_codeq K (p0.1, p0.2.1, p0.2.2)) fun r_3 =>
  b2 (fX0_swrBy K r_3 ξ_1) fun r_5 ξ_6 =>
  nm (xmrg ξ_1 ξ_6) fun ξ_7 =>
  some (r_5, ξ_7)
set_option maxHeartbeats 4000000 in
set_option maxRecDepth 100000 in
theorem tX9_evaluate (l : Launch) (D : va_G) (d : Nat → ClassId) (z : ZT) (b : Nat → Nat) (fl : Option Nat) (K : Nat) (o : Nat) (on : Nat) (o0 : Nat) (p0 : (Int32 × Int32 × Int32)) (μ : XS) (r : Int32) (μ' : XS) (hf : fX9_evaluate K p0 μ = some (r, μ')) : CI l yX9_evaluate (ws_ yX9_evaluate cX9_evaluate 2 (Option.some Jvm.ClassFile.FieldType.int)) (rmc 7 0 0 153) D d z [.ref o, .ref o0] (XP d z b fl μ ++ [(o, .inr (9, [.ref on, .int (μ.1 90), .int (μ.1 91), .ref (b 0)])), (o0, .inr (3, [.int p0.1, .int p0.2.1, .int p0.2.2]))]) r (XP d z b fl μ' ++ [(o, .inr (9, [.ref on, .int (μ'.1 90), .int (μ'.1 91), .ref (b 0)])), (o0, .inr (3, [.int p0.1, .int p0.2.1, .int p0.2.2]))]) := by
  refine CI.of2 (own := RX9) rfl (by decide) (Nat.le_of_ble_eq_true rfl) rfl ?_
  intro p e s m args below meth c A Q ls S hin hK hP hD hZ hS hA hl hret0
  have hret : ∀ (x : Int32) (μx : XS) (H : Heap) (locs : List Loc) (pc : Nat) (ls' : Array Slot), some (x, μx) = some (r, μ') → decode cX9_evaluate pc = .ok (.ireturn, 1) → va_P D CL (XP d z b fl μx ++ [(o, .inr (9, [.ref on, .int (μx.1 90), .int (μx.1 91), .ref (b 0)])), (o0, .inr (3, [.int p0.1, .int p0.2.1, .int p0.2.2]))]) H → va_D A (XP d z b fl μx ++ [(o, .inr (9, [.ref on, .int (μx.1 90), .int (μx.1 91), .ref (b 0)])), (o0, .inr (3, [.int p0.1, .int p0.2.1, .int p0.2.2]))]) → va_S A s.heap H locs → W p l e (rmc 7 0 0 153) s m args below meth c H locs 0 0 Q (F0 m pc ls' [.int x]) := by
    intro x μx H locs pc ls' h9 hdg hP hD hS
    obtain ⟨rfl, rfl⟩ := so_2 h9
    exact hret0 H locs pc ls' hdg hP hD hS
  have hx := S.1
  have hb := S.2.1
  have hts := S.2.2.2.2
  have hl : lv_has ls 2 [(0, .ref o), (1, .ref o0)] := hl
  unfold fX9_evaluate at hf
  refine lv_aload_n hx hb dX9_evaluate_0 rfl (lv_at hl 0 rfl) ?_
  refine lv_dup hx hb dX9_evaluate_1 rfl ?_
  refine g_get hx hb hts S.2.2.2.1 hK hP in_X9 16 rfl rfl 2 (by decide) q1277 (fun _ h9 => h9) (v := .int (μ.1 91)) rfl dX9_evaluate_2 ?_
  refine lv_iconst (v := 1) hx hb dX9_evaluate_5 (by decide) ?_
  refine lv_iadd hx hb dX9_evaluate_6 ?_
  obtain ⟨ξ_1, e_ξ_1⟩ : ∃ x, x = xI μ 91 ((μ.1 91) + (1 : Int32)) := ⟨_, rfl⟩
  refine g_put hx hb hts S.2.2.2.1 hK hP hD hS in_X9 tyX9 tyX9_ok nmX9 16 rfl rfl 2 (by decide) q1277 (fun _ h9 => h9) rfl (v := .int ((μ.1 91) + (1 : Int32))) rfl rfl rfl (Nat.le_of_ble_eq_true rfl) (w' := XP d z b fl ξ_1 ++ [(o, .inr (9, [.ref on, .int (ξ_1.1 90), .int (ξ_1.1 91), .ref (b 0)])), (o0, .inr (3, [.int p0.1, .int p0.2.1, .int p0.2.2]))]) (by subst e_ξ_1; rfl) dX9_evaluate_7 ?_
  clear hP hD hS
  intro H locs hP hD hS
  replace hf := nm_some hf ξ_1 e_ξ_1
  clear e_ξ_1
  refine lv_aload_n hx hb dX9_evaluate_10 rfl (lv_at hl 0 rfl) ?_
  refine g_get hx hb hts S.2.2.2.1 hK hP in_X9 16 rfl rfl 3 (by decide) q1279 (fun _ h9 => h9) (v := .ref (b 0)) rfl dX9_evaluate_11 ?_
  refine lv_aload_n hx hb dX9_evaluate_14 rfl (lv_at hl 1 rfl) ?_
  obtain ⟨r_3, h_2, hf⟩ := b1_some hf
  refine run_i0 (wr := [(b 0, .inr (1, [.ref (b 1), .int (ξ_1.1 1), .int (ξ_1.1 2), .ref (b 2), .ref (b 3), .ref (b 4), va_rf fl, .ref (b 7), .ref (b 13), .ref (b 16), .int (ξ_1.1 10)])), (b 1, .inl (d 2, 500, .inl (ξ_1.2.2.1 1))), (b 2, .inl (d 5, 2, .inr (.inr (.inr (.inr (fun j => some (z.2.2 j))))))), (b 3, .inl (d 6, 5, .inr (.inr (.inr (.inr (fun j => some (z.2.2 (2 + j)))))))), (b 4, .inr (4, [.int (ξ_1.1 20), .long (ξ_1.2.1 21), .long (ξ_1.2.1 22), .long (ξ_1.2.1 23), .ref (b 5), .ref (b 6), .ref (b 0)])), (b 5, .inr (2, [.long (ξ_1.2.1 30), .long (ξ_1.2.1 31)])), (b 6, .inr (2, [.long (ξ_1.2.1 32), .long (ξ_1.2.1 33)])), (b 7, .inr (6, [.int (ξ_1.1 40), .int (ξ_1.1 41), .int (ξ_1.1 42), .int (ξ_1.1 43), .int (ξ_1.1 44), .int (ξ_1.1 45), .ref (b 8), .ref (b 9), .ref (b 10), .int (ξ_1.1 49), .ref (b 11), .ref (b 12), .int (ξ_1.1 52)])), (b 8, .inl (d 0, 16, .inl (ξ_1.2.2.1 46))), (b 9, .inl (d 1, 16, .inr (.inl (ξ_1.2.2.2.1 47)))), (b 10, .inl (d 1, 16, .inr (.inl (ξ_1.2.2.2.1 48)))), (b 11, .inl (d 0, 8, .inl (ξ_1.2.2.1 50))), (b 12, .inl (d 0, 8, .inl (ξ_1.2.2.1 51))), (b 13, .inr (8, [.int (ξ_1.1 60), .int (ξ_1.1 61), .int (ξ_1.1 62), .int (ξ_1.1 63), .ref (b 14), .ref (b 15), .int (ξ_1.1 66), .ref (b 17)])), (b 14, .inl (d 0, 100, .inl (ξ_1.2.2.1 64))), (b 15, .inl (d 3, 100, .inl (ξ_1.2.2.1 65))), (o, .inr (9, [.ref on, .int (ξ_1.1 90), .int (ξ_1.1 91), .ref (b 0)]))]) (w' := XP d z b fl ξ_1 ++ [(o, .inr (9, [.ref on, .int (ξ_1.1 90), .int (ξ_1.1 91), .ref (b 0)])), (o0, .inr (3, [.int p0.1, .int p0.2.1, .int p0.2.2]))]) (va_runV (As := []) (rest := [.ref (b 0)]) S (tX2_codeq l D d z o0 K (p0.1, p0.2.1, p0.2.2) r_3 h_2 _) (cwV 0 hts (lw_V q1257 q1049 q1050 q97 q1051) rfl rfl rfl (by decide +kernel) ⟨(Nat.le_of_ble_eq_true rfl), (Nat.le_of_ble_eq_true rfl)⟩) ⟨Pw.blind, (va_recv hK.1 hP (ci := 3) (q0 := 17) rfl rfl), fun U hU hW => Pw.cut (tl := []) hK (by rw [List.append_nil]; exact hP) (by rw [List.append_nil]; exact hD) hZ hS hA [17] rfl rfl hU hW⟩ rfl rfl hl.1 rfl (lv_room (Nat.le_of_ble_eq_true rfl)) dX9_evaluate_15 ⟨(Nat.le_of_ble_eq_true rfl), (Nat.le_of_ble_eq_true rfl)⟩) hP hD hS hA [17] [0, 1, 2, 3, 4, 5, 6, 7, 8, 9, 10, 11, 12, 13, 14, 15, 16] [0, 1, 2, 3, 4, 5, 6, 7, 8, 9, 10, 11, 12, 13, 14, 15, 16, 17] rfl rfl rfl rfl (by decide) rfl rfl ?_
  clear hP hD hS
  intro H locs hP hD hS
  clear h_2
  obtain ⟨r_5, ξ_6, h_4, hf⟩ := b2_some hf
  obtain ⟨ξ_7, e_ξ_7⟩ : ∃ x, x = xmrg ξ_1 ξ_6 := ⟨_, rfl⟩
  refine run_i0 (wr := [(o, .inr (9, [.ref on, .int (ξ_1.1 90), .int (ξ_1.1 91), .ref (b 0)])), (o0, .inr (3, [.int p0.1, .int p0.2.1, .int p0.2.2]))]) (w' := XP d z b fl ξ_7 ++ [(o, .inr (9, [.ref on, .int (ξ_7.1 90), .int (ξ_7.1 91), .ref (b 0)])), (o0, .inr (3, [.int p0.1, .int p0.2.1, .int p0.2.2]))]) (va_runVN (As := [.int r_3]) (rest := []) S (tX0_swrBy l D d z b fl K r_3 ξ_1 r_5 ξ_6 h_4 _) ⟨va_cnB 1 hts (lw_meth q1151) rfl rfl rfl (va_Nw.use_ hK q1258) (hts _ q94) (by decide +kernel) ⟨(Nat.le_of_ble_eq_true rfl), (Nat.le_of_ble_eq_true rfl)⟩, hts _ q1150, hts _ qs32⟩ ⟨Pw.blind, (va_recv hK.1 hP (ci := 1) (q0 := 0) rfl rfl), fun U hU hW => Pw.cut (tl := []) hK (by rw [List.append_nil]; exact hP) (by rw [List.append_nil]; exact hD) hZ hS hA [0, 1, 2, 3, 4, 5, 6, 7, 8, 9, 10, 11, 12, 13, 14, 15] rfl rfl hU hW⟩ rfl rfl hl.1 rfl (lv_room (Nat.le_of_ble_eq_true rfl)) dX9_evaluate_18 ⟨(Nat.le_of_ble_eq_true rfl), (Nat.le_of_ble_eq_true rfl)⟩) hP hD hS hA [0, 1, 2, 3, 4, 5, 6, 7, 8, 9, 10, 11, 12, 13, 14, 15] [16, 17] [2, 3, 4, 5, 6, 7, 8, 9, 10, 11, 12, 13, 14, 15, 16, 17, 0, 1] rfl rfl rfl rfl (by decide) rfl (by subst e_ξ_7; rfl) ?_
  clear hP hD hS
  intro H locs hP hD hS
  clear h_4
  replace hf := nm_some hf ξ_7 e_ξ_7
  clear e_ξ_7
  refine W.widen (k := 0) (n := 0) (Nat.le_of_ble_eq_true rfl) (Nat.le_of_ble_eq_true rfl) ?_
  exact hret _ _ _ _ _ _ hf dX9_evaluate_21 hP hD hS
def fX9_improve_L100v0 (K : Nat) (t100v0_0 : Int32) (x100v0_3 : Int32) (y100v0_1_0 : Int32) (y100v0_1_1 : Int32) (y100v0_1_2 : Int32) (μ100v0 : XS) : Option (Bool × (Int32 × Int32 × Int32) × XS) :=
  nm (xI μ100v0 90 x100v0_3) fun ξ_43 =>
  ga (t100v0_0 = bi (decide (t100v0_0 = 1))) <|
  some (decide (t100v0_0 = 1), (y100v0_1_0, y100v0_1_1, y100v0_1_2), ξ_43)
def fX9_improve_L13v5 (K : Nat) (x13v5_1 : Int32) (x13v5_3 : Int32) (y13v5_1_0 : Int32) (y13v5_1_1 : Int32) (y13v5_1_2 : Int32) (μ13v5 : XS) : Option (Bool × (Int32 × Int32 × Int32) × XS) :=
  if (μ13v5.1 90) ≤ x13v5_3 then
    fX9_improve_L100v0 K (0 : Int32) x13v5_3 y13v5_1_0 y13v5_1_1 y13v5_1_2 μ13v5
  else
    fX9_improve_L100v0 K (1 : Int32) x13v5_3 y13v5_1_0 y13v5_1_1 y13v5_1_2 μ13v5
def fX9_improve_L81v4 (K : Nat) (x81v4_1 : Int32) (x81v4_3 : Int32) (y81v4_1_0 : Int32) (y81v4_1_1 : Int32) (y81v4_1_2 : Int32) (μ81v4 : XS) : Option (Bool × (Int32 × Int32 × Int32) × XS) :=
  fX9_improve_L13v5 K x81v4_1 x81v4_3 y81v4_1_0 y81v4_1_1 y81v4_1_2 μ81v4
def fX9_improve_L100v1 (K : Nat) (t100v1_0 : Int32) (x100v1_3 : Int32) (y100v1_1_0 : Int32) (y100v1_1_1 : Int32) (y100v1_1_2 : Int32) (y100v1_2_0 : Int32) (y100v1_2_1 : Int32) (y100v1_2_2 : Int32) (μ100v1 : XS) : Option (Bool × (Int32 × Int32 × Int32) × XS) :=
  nm (xI μ100v1 90 x100v1_3) fun ξ_46 =>
  ga (t100v1_0 = bi (decide (t100v1_0 = 1))) <|
  some (decide (t100v1_0 = 1), (y100v1_2_0, y100v1_2_1, y100v1_2_2), ξ_46)
def fX9_improve_L13v6 (K : Nat) (x13v6_1 : Int32) (x13v6_3 : Int32) (y13v6_1_0 : Int32) (y13v6_1_1 : Int32) (y13v6_1_2 : Int32) (y13v6_2_0 : Int32) (y13v6_2_1 : Int32) (y13v6_2_2 : Int32) (μ13v6 : XS) : Option (Bool × (Int32 × Int32 × Int32) × XS) :=
  if (μ13v6.1 90) ≤ x13v6_3 then
    fX9_improve_L100v1 K (0 : Int32) x13v6_3 y13v6_1_0 y13v6_1_1 y13v6_1_2 y13v6_2_0 y13v6_2_1 y13v6_2_2 μ13v6
  else
    fX9_improve_L100v1 K (1 : Int32) x13v6_3 y13v6_1_0 y13v6_1_1 y13v6_1_2 y13v6_2_0 y13v6_2_1 y13v6_2_2 μ13v6
def fX9_improve_L81v5 (K : Nat) (x81v5_1 : Int32) (x81v5_3 : Int32) (y81v5_1_0 : Int32) (y81v5_1_1 : Int32) (y81v5_1_2 : Int32) (y81v5_2_0 : Int32) (y81v5_2_1 : Int32) (y81v5_2_2 : Int32) (μ81v5 : XS) : Option (Bool × (Int32 × Int32 × Int32) × XS) :=
  fX9_improve_L13v6 K x81v5_1 x81v5_3 y81v5_1_0 y81v5_1_1 y81v5_1_2 y81v5_2_0 y81v5_2_1 y81v5_2_2 μ81v5
def fX9_improve_L67v4 (K : Nat) (t67v4_0 : Int32) (x67v4_1 : Int32) (x67v4_3 : Int32) (y67v4_1_0 : Int32) (y67v4_1_1 : Int32) (y67v4_1_2 : Int32) (y67v4_2_0 : Int32) (y67v4_2_1 : Int32) (y67v4_2_2 : Int32) (μ67v4 : XS) : Option (Bool × (Int32 × Int32 × Int32) × XS) :=
  if x67v4_3 ≤ t67v4_0 then
    fX9_improve_L81v4 K x67v4_1 x67v4_3 y67v4_1_0 y67v4_1_1 y67v4_1_2 μ67v4
  else
    fX9_improve_L81v5 K x67v4_1 t67v4_0 y67v4_1_0 y67v4_1_1 y67v4_1_2 y67v4_2_0 y67v4_2_1 y67v4_2_2 μ67v4
def fX9_improve_L13v4 (K : Nat) (x13v4_1 : Int32) (x13v4_3 : Int32) (y13v4_1_0 : Int32) (y13v4_1_1 : Int32) (y13v4_1_2 : Int32) (μ13v4 : XS) : Option (Bool × (Int32 × Int32 × Int32) × XS) :=
  b1 (fX0_lambda_new_4 K (y13v4_1_0, y13v4_1_1, y13v4_1_2) x13v4_1) fun r_35 =>
  b1 (fX2_isPossibleq K (r_35.1, r_35.2.1, r_35.2.2)) fun r_39 =>
  if r_39 = true then
    b2 (fX9_evaluate K (r_35.1, r_35.2.1, r_35.2.2) μ13v4) fun r_50 ξ_49 =>
    fX9_improve_L67v4 K r_50 x13v4_1 x13v4_3 y13v4_1_0 y13v4_1_1 y13v4_1_2 r_35.1 r_35.2.1 r_35.2.2 ξ_49
  else
    fX9_improve_L67v4 K (99999 : Int32) x13v4_1 x13v4_3 y13v4_1_0 y13v4_1_1 y13v4_1_2 r_35.1 r_35.2.1 r_35.2.2 μ13v4
def fX9_improve_L81v3 (K : Nat) (x81v3_1 : Int32) (x81v3_3 : Int32) (y81v3_1_0 : Int32) (y81v3_1_1 : Int32) (y81v3_1_2 : Int32) (μ81v3 : XS) : Option (Bool × (Int32 × Int32 × Int32) × XS) :=
  fX9_improve_L13v4 K x81v3_1 x81v3_3 y81v3_1_0 y81v3_1_1 y81v3_1_2 μ81v3
def fX9_improve_L67v5 (K : Nat) (t67v5_0 : Int32) (x67v5_1 : Int32) (x67v5_3 : Int32) (y67v5_1_0 : Int32) (y67v5_1_1 : Int32) (y67v5_1_2 : Int32) (y67v5_2_0 : Int32) (y67v5_2_1 : Int32) (y67v5_2_2 : Int32) (y67v5_3_0 : Int32) (y67v5_3_1 : Int32) (y67v5_3_2 : Int32) (μ67v5 : XS) : Option (Bool × (Int32 × Int32 × Int32) × XS) :=
  if x67v5_3 ≤ t67v5_0 then
    fX9_improve_L81v5 K x67v5_1 x67v5_3 y67v5_1_0 y67v5_1_1 y67v5_1_2 y67v5_2_0 y67v5_2_1 y67v5_2_2 μ67v5
  else
    fX9_improve_L81v5 K x67v5_1 t67v5_0 y67v5_1_0 y67v5_1_1 y67v5_1_2 y67v5_3_0 y67v5_3_1 y67v5_3_2 μ67v5
def fX9_improve_L13v7 (K : Nat) (x13v7_1 : Int32) (x13v7_3 : Int32) (y13v7_1_0 : Int32) (y13v7_1_1 : Int32) (y13v7_1_2 : Int32) (y13v7_2_0 : Int32) (y13v7_2_1 : Int32) (y13v7_2_2 : Int32) (μ13v7 : XS) : Option (Bool × (Int32 × Int32 × Int32) × XS) :=
  b1 (fX0_lambda_new_4 K (y13v7_1_0, y13v7_1_1, y13v7_1_2) x13v7_1) fun r_52 =>
  b1 (fX2_isPossibleq K (r_52.1, r_52.2.1, r_52.2.2)) fun r_56 =>
  if r_56 = true then
    b2 (fX9_evaluate K (r_52.1, r_52.2.1, r_52.2.2) μ13v7) fun r_61 ξ_60 =>
    fX9_improve_L67v5 K r_61 x13v7_1 x13v7_3 y13v7_1_0 y13v7_1_1 y13v7_1_2 y13v7_2_0 y13v7_2_1 y13v7_2_2 r_52.1 r_52.2.1 r_52.2.2 ξ_60
  else
    fX9_improve_L67v5 K (99999 : Int32) x13v7_1 x13v7_3 y13v7_1_0 y13v7_1_1 y13v7_1_2 y13v7_2_0 y13v7_2_1 y13v7_2_2 r_52.1 r_52.2.1 r_52.2.2 μ13v7
def fX9_improve_L81v6 (K : Nat) (x81v6_1 : Int32) (x81v6_3 : Int32) (y81v6_1_0 : Int32) (y81v6_1_1 : Int32) (y81v6_1_2 : Int32) (y81v6_2_0 : Int32) (y81v6_2_1 : Int32) (y81v6_2_2 : Int32) (μ81v6 : XS) : Option (Bool × (Int32 × Int32 × Int32) × XS) :=
  fX9_improve_L13v7 K x81v6_1 x81v6_3 y81v6_1_0 y81v6_1_1 y81v6_1_2 y81v6_2_0 y81v6_2_1 y81v6_2_2 μ81v6
def fX9_improve_L67v3 (K : Nat) (t67v3_0 : Int32) (x67v3_1 : Int32) (x67v3_3 : Int32) (y67v3_1_0 : Int32) (y67v3_1_1 : Int32) (y67v3_1_2 : Int32) (y67v3_2_0 : Int32) (y67v3_2_1 : Int32) (y67v3_2_2 : Int32) (μ67v3 : XS) : Option (Bool × (Int32 × Int32 × Int32) × XS) :=
  if x67v3_3 ≤ t67v3_0 then
    fX9_improve_L81v3 K x67v3_1 x67v3_3 y67v3_1_0 y67v3_1_1 y67v3_1_2 μ67v3
  else
    fX9_improve_L81v6 K x67v3_1 t67v3_0 y67v3_1_0 y67v3_1_1 y67v3_1_2 y67v3_2_0 y67v3_2_1 y67v3_2_2 μ67v3
def fX9_improve_L13v3 (K : Nat) (x13v3_1 : Int32) (x13v3_3 : Int32) (y13v3_1_0 : Int32) (y13v3_1_1 : Int32) (y13v3_1_2 : Int32) (μ13v3 : XS) : Option (Bool × (Int32 × Int32 × Int32) × XS) :=
  b1 (fX0_lambda_new_3 K (y13v3_1_0, y13v3_1_1, y13v3_1_2) x13v3_1) fun r_27 =>
  b1 (fX2_isPossibleq K (r_27.1, r_27.2.1, r_27.2.2)) fun r_31 =>
  if r_31 = true then
    b2 (fX9_evaluate K (r_27.1, r_27.2.1, r_27.2.2) μ13v3) fun r_64 ξ_63 =>
    fX9_improve_L67v3 K r_64 x13v3_1 x13v3_3 y13v3_1_0 y13v3_1_1 y13v3_1_2 r_27.1 r_27.2.1 r_27.2.2 ξ_63
  else
    fX9_improve_L67v3 K (99999 : Int32) x13v3_1 x13v3_3 y13v3_1_0 y13v3_1_1 y13v3_1_2 r_27.1 r_27.2.1 r_27.2.2 μ13v3
def fX9_improve_L81v2 (K : Nat) (x81v2_1 : Int32) (x81v2_3 : Int32) (y81v2_1_0 : Int32) (y81v2_1_1 : Int32) (y81v2_1_2 : Int32) (μ81v2 : XS) : Option (Bool × (Int32 × Int32 × Int32) × XS) :=
  fX9_improve_L13v3 K x81v2_1 x81v2_3 y81v2_1_0 y81v2_1_1 y81v2_1_2 μ81v2
def fX9_improve_L67v6 (K : Nat) (t67v6_0 : Int32) (x67v6_1 : Int32) (x67v6_3 : Int32) (y67v6_1_0 : Int32) (y67v6_1_1 : Int32) (y67v6_1_2 : Int32) (y67v6_2_0 : Int32) (y67v6_2_1 : Int32) (y67v6_2_2 : Int32) (y67v6_3_0 : Int32) (y67v6_3_1 : Int32) (y67v6_3_2 : Int32) (μ67v6 : XS) : Option (Bool × (Int32 × Int32 × Int32) × XS) :=
  if x67v6_3 ≤ t67v6_0 then
    fX9_improve_L81v6 K x67v6_1 x67v6_3 y67v6_1_0 y67v6_1_1 y67v6_1_2 y67v6_2_0 y67v6_2_1 y67v6_2_2 μ67v6
  else
    fX9_improve_L81v6 K x67v6_1 t67v6_0 y67v6_1_0 y67v6_1_1 y67v6_1_2 y67v6_3_0 y67v6_3_1 y67v6_3_2 μ67v6
def fX9_improve_L13v8 (K : Nat) (x13v8_1 : Int32) (x13v8_3 : Int32) (y13v8_1_0 : Int32) (y13v8_1_1 : Int32) (y13v8_1_2 : Int32) (y13v8_2_0 : Int32) (y13v8_2_1 : Int32) (y13v8_2_2 : Int32) (μ13v8 : XS) : Option (Bool × (Int32 × Int32 × Int32) × XS) :=
  b1 (fX0_lambda_new_3 K (y13v8_1_0, y13v8_1_1, y13v8_1_2) x13v8_1) fun r_66 =>
  b1 (fX2_isPossibleq K (r_66.1, r_66.2.1, r_66.2.2)) fun r_70 =>
  if r_70 = true then
    b2 (fX9_evaluate K (r_66.1, r_66.2.1, r_66.2.2) μ13v8) fun r_75 ξ_74 =>
    fX9_improve_L67v6 K r_75 x13v8_1 x13v8_3 y13v8_1_0 y13v8_1_1 y13v8_1_2 y13v8_2_0 y13v8_2_1 y13v8_2_2 r_66.1 r_66.2.1 r_66.2.2 ξ_74
  else
    fX9_improve_L67v6 K (99999 : Int32) x13v8_1 x13v8_3 y13v8_1_0 y13v8_1_1 y13v8_1_2 y13v8_2_0 y13v8_2_1 y13v8_2_2 r_66.1 r_66.2.1 r_66.2.2 μ13v8
def fX9_improve_L81v7 (K : Nat) (x81v7_1 : Int32) (x81v7_3 : Int32) (y81v7_1_0 : Int32) (y81v7_1_1 : Int32) (y81v7_1_2 : Int32) (y81v7_2_0 : Int32) (y81v7_2_1 : Int32) (y81v7_2_2 : Int32) (μ81v7 : XS) : Option (Bool × (Int32 × Int32 × Int32) × XS) :=
  fX9_improve_L13v8 K x81v7_1 x81v7_3 y81v7_1_0 y81v7_1_1 y81v7_1_2 y81v7_2_0 y81v7_2_1 y81v7_2_2 μ81v7
def fX9_improve_L67v2 (K : Nat) (t67v2_0 : Int32) (x67v2_1 : Int32) (x67v2_3 : Int32) (y67v2_1_0 : Int32) (y67v2_1_1 : Int32) (y67v2_1_2 : Int32) (y67v2_2_0 : Int32) (y67v2_2_1 : Int32) (y67v2_2_2 : Int32) (μ67v2 : XS) : Option (Bool × (Int32 × Int32 × Int32) × XS) :=
  if x67v2_3 ≤ t67v2_0 then
    fX9_improve_L81v2 K x67v2_1 x67v2_3 y67v2_1_0 y67v2_1_1 y67v2_1_2 μ67v2
  else
    fX9_improve_L81v7 K x67v2_1 t67v2_0 y67v2_1_0 y67v2_1_1 y67v2_1_2 y67v2_2_0 y67v2_2_1 y67v2_2_2 μ67v2
def fX9_improve_L13v2 (K : Nat) (x13v2_1 : Int32) (x13v2_3 : Int32) (y13v2_1_0 : Int32) (y13v2_1_1 : Int32) (y13v2_1_2 : Int32) (μ13v2 : XS) : Option (Bool × (Int32 × Int32 × Int32) × XS) :=
  b1 (fX0_lambda_new_2 K (y13v2_1_0, y13v2_1_1, y13v2_1_2) x13v2_1) fun r_19 =>
  b1 (fX2_isPossibleq K (r_19.1, r_19.2.1, r_19.2.2)) fun r_23 =>
  if r_23 = true then
    b2 (fX9_evaluate K (r_19.1, r_19.2.1, r_19.2.2) μ13v2) fun r_78 ξ_77 =>
    fX9_improve_L67v2 K r_78 x13v2_1 x13v2_3 y13v2_1_0 y13v2_1_1 y13v2_1_2 r_19.1 r_19.2.1 r_19.2.2 ξ_77
  else
    fX9_improve_L67v2 K (99999 : Int32) x13v2_1 x13v2_3 y13v2_1_0 y13v2_1_1 y13v2_1_2 r_19.1 r_19.2.1 r_19.2.2 μ13v2
def fX9_improve_L81v1 (K : Nat) (x81v1_1 : Int32) (x81v1_3 : Int32) (y81v1_1_0 : Int32) (y81v1_1_1 : Int32) (y81v1_1_2 : Int32) (μ81v1 : XS) : Option (Bool × (Int32 × Int32 × Int32) × XS) :=
  fX9_improve_L13v2 K x81v1_1 x81v1_3 y81v1_1_0 y81v1_1_1 y81v1_1_2 μ81v1
def fX9_improve_L67v7 (K : Nat) (t67v7_0 : Int32) (x67v7_1 : Int32) (x67v7_3 : Int32) (y67v7_1_0 : Int32) (y67v7_1_1 : Int32) (y67v7_1_2 : Int32) (y67v7_2_0 : Int32) (y67v7_2_1 : Int32) (y67v7_2_2 : Int32) (y67v7_3_0 : Int32) (y67v7_3_1 : Int32) (y67v7_3_2 : Int32) (μ67v7 : XS) : Option (Bool × (Int32 × Int32 × Int32) × XS) :=
  if x67v7_3 ≤ t67v7_0 then
    fX9_improve_L81v7 K x67v7_1 x67v7_3 y67v7_1_0 y67v7_1_1 y67v7_1_2 y67v7_2_0 y67v7_2_1 y67v7_2_2 μ67v7
  else
    fX9_improve_L81v7 K x67v7_1 t67v7_0 y67v7_1_0 y67v7_1_1 y67v7_1_2 y67v7_3_0 y67v7_3_1 y67v7_3_2 μ67v7
def fX9_improve_L13v9 (K : Nat) (x13v9_1 : Int32) (x13v9_3 : Int32) (y13v9_1_0 : Int32) (y13v9_1_1 : Int32) (y13v9_1_2 : Int32) (y13v9_2_0 : Int32) (y13v9_2_1 : Int32) (y13v9_2_2 : Int32) (μ13v9 : XS) : Option (Bool × (Int32 × Int32 × Int32) × XS) :=
  b1 (fX0_lambda_new_2 K (y13v9_1_0, y13v9_1_1, y13v9_1_2) x13v9_1) fun r_80 =>
  b1 (fX2_isPossibleq K (r_80.1, r_80.2.1, r_80.2.2)) fun r_84 =>
  if r_84 = true then
    b2 (fX9_evaluate K (r_80.1, r_80.2.1, r_80.2.2) μ13v9) fun r_89 ξ_88 =>
    fX9_improve_L67v7 K r_89 x13v9_1 x13v9_3 y13v9_1_0 y13v9_1_1 y13v9_1_2 y13v9_2_0 y13v9_2_1 y13v9_2_2 r_80.1 r_80.2.1 r_80.2.2 ξ_88
  else
    fX9_improve_L67v7 K (99999 : Int32) x13v9_1 x13v9_3 y13v9_1_0 y13v9_1_1 y13v9_1_2 y13v9_2_0 y13v9_2_1 y13v9_2_2 r_80.1 r_80.2.1 r_80.2.2 μ13v9
def fX9_improve_L81v8 (K : Nat) (x81v8_1 : Int32) (x81v8_3 : Int32) (y81v8_1_0 : Int32) (y81v8_1_1 : Int32) (y81v8_1_2 : Int32) (y81v8_2_0 : Int32) (y81v8_2_1 : Int32) (y81v8_2_2 : Int32) (μ81v8 : XS) : Option (Bool × (Int32 × Int32 × Int32) × XS) :=
  fX9_improve_L13v9 K x81v8_1 x81v8_3 y81v8_1_0 y81v8_1_1 y81v8_1_2 y81v8_2_0 y81v8_2_1 y81v8_2_2 μ81v8
def fX9_improve_L67v1 (K : Nat) (t67v1_0 : Int32) (x67v1_1 : Int32) (x67v1_3 : Int32) (y67v1_1_0 : Int32) (y67v1_1_1 : Int32) (y67v1_1_2 : Int32) (y67v1_2_0 : Int32) (y67v1_2_1 : Int32) (y67v1_2_2 : Int32) (μ67v1 : XS) : Option (Bool × (Int32 × Int32 × Int32) × XS) :=
  if x67v1_3 ≤ t67v1_0 then
    fX9_improve_L81v1 K x67v1_1 x67v1_3 y67v1_1_0 y67v1_1_1 y67v1_1_2 μ67v1
  else
    fX9_improve_L81v8 K x67v1_1 t67v1_0 y67v1_1_0 y67v1_1_1 y67v1_1_2 y67v1_2_0 y67v1_2_1 y67v1_2_2 μ67v1
def fX9_improve_L13v1 (K : Nat) (x13v1_1 : Int32) (x13v1_3 : Int32) (y13v1_1_0 : Int32) (y13v1_1_1 : Int32) (y13v1_1_2 : Int32) (μ13v1 : XS) : Option (Bool × (Int32 × Int32 × Int32) × XS) :=
  b1 (fX0_lambda_new_1 K (y13v1_1_0, y13v1_1_1, y13v1_1_2) x13v1_1) fun r_11 =>
  b1 (fX2_isPossibleq K (r_11.1, r_11.2.1, r_11.2.2)) fun r_15 =>
  if r_15 = true then
    b2 (fX9_evaluate K (r_11.1, r_11.2.1, r_11.2.2) μ13v1) fun r_92 ξ_91 =>
    fX9_improve_L67v1 K r_92 x13v1_1 x13v1_3 y13v1_1_0 y13v1_1_1 y13v1_1_2 r_11.1 r_11.2.1 r_11.2.2 ξ_91
  else
    fX9_improve_L67v1 K (99999 : Int32) x13v1_1 x13v1_3 y13v1_1_0 y13v1_1_1 y13v1_1_2 r_11.1 r_11.2.1 r_11.2.2 μ13v1
def fX9_improve_L81v0 (K : Nat) (x81v0_1 : Int32) (x81v0_3 : Int32) (y81v0_1_0 : Int32) (y81v0_1_1 : Int32) (y81v0_1_2 : Int32) (μ81v0 : XS) : Option (Bool × (Int32 × Int32 × Int32) × XS) :=
  fX9_improve_L13v1 K x81v0_1 x81v0_3 y81v0_1_0 y81v0_1_1 y81v0_1_2 μ81v0
def fX9_improve_L67v8 (K : Nat) (t67v8_0 : Int32) (x67v8_1 : Int32) (x67v8_3 : Int32) (y67v8_1_0 : Int32) (y67v8_1_1 : Int32) (y67v8_1_2 : Int32) (y67v8_2_0 : Int32) (y67v8_2_1 : Int32) (y67v8_2_2 : Int32) (y67v8_3_0 : Int32) (y67v8_3_1 : Int32) (y67v8_3_2 : Int32) (μ67v8 : XS) : Option (Bool × (Int32 × Int32 × Int32) × XS) :=
  if x67v8_3 ≤ t67v8_0 then
    fX9_improve_L81v8 K x67v8_1 x67v8_3 y67v8_1_0 y67v8_1_1 y67v8_1_2 y67v8_2_0 y67v8_2_1 y67v8_2_2 μ67v8
  else
    fX9_improve_L81v8 K x67v8_1 t67v8_0 y67v8_1_0 y67v8_1_1 y67v8_1_2 y67v8_3_0 y67v8_3_1 y67v8_3_2 μ67v8
def fX9_improve_L13v10 (K : Nat) (x13v10_1 : Int32) (x13v10_3 : Int32) (y13v10_1_0 : Int32) (y13v10_1_1 : Int32) (y13v10_1_2 : Int32) (y13v10_2_0 : Int32) (y13v10_2_1 : Int32) (y13v10_2_2 : Int32) (μ13v10 : XS) : Option (Bool × (Int32 × Int32 × Int32) × XS) :=
  b1 (fX0_lambda_new_1 K (y13v10_1_0, y13v10_1_1, y13v10_1_2) x13v10_1) fun r_94 =>
  b1 (fX2_isPossibleq K (r_94.1, r_94.2.1, r_94.2.2)) fun r_98 =>
  if r_98 = true then
    b2 (fX9_evaluate K (r_94.1, r_94.2.1, r_94.2.2) μ13v10) fun r_103 ξ_102 =>
    fX9_improve_L67v8 K r_103 x13v10_1 x13v10_3 y13v10_1_0 y13v10_1_1 y13v10_1_2 y13v10_2_0 y13v10_2_1 y13v10_2_2 r_94.1 r_94.2.1 r_94.2.2 ξ_102
  else
    fX9_improve_L67v8 K (99999 : Int32) x13v10_1 x13v10_3 y13v10_1_0 y13v10_1_1 y13v10_1_2 y13v10_2_0 y13v10_2_1 y13v10_2_2 r_94.1 r_94.2.1 r_94.2.2 μ13v10
def fX9_improve_L81v9 (K : Nat) (x81v9_1 : Int32) (x81v9_3 : Int32) (y81v9_1_0 : Int32) (y81v9_1_1 : Int32) (y81v9_1_2 : Int32) (y81v9_2_0 : Int32) (y81v9_2_1 : Int32) (y81v9_2_2 : Int32) (μ81v9 : XS) : Option (Bool × (Int32 × Int32 × Int32) × XS) :=
  fX9_improve_L13v10 K x81v9_1 x81v9_3 y81v9_1_0 y81v9_1_1 y81v9_1_2 y81v9_2_0 y81v9_2_1 y81v9_2_2 μ81v9
def fX9_improve_L67v0 (K : Nat) (t67v0_0 : Int32) (x67v0_1 : Int32) (x67v0_3 : Int32) (y67v0_1_0 : Int32) (y67v0_1_1 : Int32) (y67v0_1_2 : Int32) (y67v0_2_0 : Int32) (y67v0_2_1 : Int32) (y67v0_2_2 : Int32) (μ67v0 : XS) : Option (Bool × (Int32 × Int32 × Int32) × XS) :=
  if x67v0_3 ≤ t67v0_0 then
    fX9_improve_L81v0 K x67v0_1 x67v0_3 y67v0_1_0 y67v0_1_1 y67v0_1_2 μ67v0
  else
    fX9_improve_L81v9 K x67v0_1 t67v0_0 y67v0_1_0 y67v0_1_1 y67v0_1_2 y67v0_2_0 y67v0_2_1 y67v0_2_2 μ67v0
def fX9_improve_L13v0 (K : Nat) (x13v0_1 : Int32) (x13v0_3 : Int32) (y13v0_1_0 : Int32) (y13v0_1_1 : Int32) (y13v0_1_2 : Int32) (μ13v0 : XS) : Option (Bool × (Int32 × Int32 × Int32) × XS) :=
  b1 (fX0_lambda_new_0 K (y13v0_1_0, y13v0_1_1, y13v0_1_2) x13v0_1) fun r_3 =>
  b1 (fX2_isPossibleq K (r_3.1, r_3.2.1, r_3.2.2)) fun r_7 =>
  if r_7 = true then
    b2 (fX9_evaluate K (r_3.1, r_3.2.1, r_3.2.2) μ13v0) fun r_106 ξ_105 =>
    fX9_improve_L67v0 K r_106 x13v0_1 x13v0_3 y13v0_1_0 y13v0_1_1 y13v0_1_2 r_3.1 r_3.2.1 r_3.2.2 ξ_105
  else
    fX9_improve_L67v0 K (99999 : Int32) x13v0_1 x13v0_3 y13v0_1_0 y13v0_1_1 y13v0_1_2 r_3.1 r_3.2.1 r_3.2.2 μ13v0
def fX9_improve (K : Nat) (t : (Int32 × Int32 × Int32)) (p0 : Int32) (μ : XS) : Option (Bool × (Int32 × Int32 × Int32) × XS) :=
  nm (μ.1 90) fun v_1 =>
  fX9_improve_L13v0 K p0 v_1 t.1 t.2.1 t.2.2 μ
set_option maxHeartbeats 4000000 in
set_option maxRecDepth 100000 in
theorem tX9_improve (l : Launch) (D : va_G) (d : Nat → ClassId) (z : ZT) (b : Nat → Nat) (fl : Option Nat) (K : Nat) (o : Nat) (on : Nat) (t : (Int32 × Int32 × Int32)) (p0 : Int32) (μ : XS) (r : Bool) (t' : (Int32 × Int32 × Int32)) (μ' : XS) (hf : fX9_improve K t p0 μ = some (r, t', μ')) : CIS l yX9_improve (ws_ yX9_improve cX9_improve 7 (Option.some Jvm.ClassFile.FieldType.boolean)) (rmc 8 5 15 174) D d z [.ref o, .int p0] (XP d z b fl μ ++ [(o, .inr (9, [.ref on, .int (μ.1 90), .int (μ.1 91), .ref (b 0)])), (on, .inr (3, [.int t.1, .int t.2.1, .int t.2.2]))]) (fun _ : Nat => (bi r)) (fun u => XP d z b fl μ' ++ [(o, .inr (9, [.ref u, .int (μ'.1 90), .int (μ'.1 91), .ref (b 0)])), (u, .inr (3, [.int t'.1, .int t'.2.1, .int t'.2.2]))]) (fun _ => True) := by
  refine CIS.of (own := RX9) rfl (by decide) (Nat.le_of_ble_eq_true rfl) (fun _ => bi_nar r) ?_
  intro p e s m args below meth c A Q ls S hin hK hP hD hZ hS hA hl hret0
  have hret : ∀ (u : Nat) (x : Bool) (tx : (Int32 × Int32 × Int32)) (μx : XS) (H : Heap) (locs : List Loc) (pc : Nat) (ls' : Array Slot), some (x, tx, μx) = some (r, t', μ') → decode cX9_improve pc = .ok (.ireturn, 1) → va_P D CL (XP d z b fl μx ++ [(o, .inr (9, [.ref u, .int (μx.1 90), .int (μx.1 91), .ref (b 0)])), (u, .inr (3, [.int tx.1, .int tx.2.1, .int tx.2.2]))]) H → va_D A (XP d z b fl μx ++ [(o, .inr (9, [.ref u, .int (μx.1 90), .int (μx.1 91), .ref (b 0)])), (u, .inr (3, [.int tx.1, .int tx.2.1, .int tx.2.2]))]) → va_S A s.heap H locs → W p l e (rmc 8 5 15 174) s m args below meth c H locs 5 15 Q (F0 m pc ls' [.int (bi x)]) := by
    intro u x tx μx H locs pc ls' h9 hdg hP hD hS
    obtain ⟨rfl, rfl, rfl⟩ := so_3 h9
    exact hret0 u trivial H locs pc ls' hdg hP hD hS
  have hx := S.1
  have hb := S.2.1
  have hts := S.2.2.2.2
  have hl : lv_has ls 7 [(0, .ref o), (1, .int p0)] := hl
  have L100v0 : ∀ (t100v0_0 : Int32) (x100v0_3 : Int32) (q100v0_1 : Nat) (y100v0_1_0 : Int32) (y100v0_1_1 : Int32) (y100v0_1_2 : Int32) (μ100v0 : XS) (H : Heap) (locs : List Loc) (ls : Array Slot), fX9_improve_L100v0 K t100v0_0 x100v0_3 y100v0_1_0 y100v0_1_1 y100v0_1_2 μ100v0 = some (r, t', μ') → va_P D CL (XP d z b fl μ100v0 ++ [(o, .inr (9, [.ref q100v0_1, .int (μ100v0.1 90), .int (μ100v0.1 91), .ref (b 0)])), (q100v0_1, .inr (3, [.int y100v0_1_0, .int y100v0_1_1, .int y100v0_1_2]))]) H → va_D A (XP d z b fl μ100v0 ++ [(o, .inr (9, [.ref q100v0_1, .int (μ100v0.1 90), .int (μ100v0.1 91), .ref (b 0)])), (q100v0_1, .inr (3, [.int y100v0_1_0, .int y100v0_1_1, .int y100v0_1_2]))]) → va_S A s.heap H locs → lv_has ls 7 [(0, .ref o), (2, .ref q100v0_1), (3, .int x100v0_3)] → W p l e (rmc 8 5 15 174) s m args below meth c H locs 5 15 Q (F0 m 100 ls [.int t100v0_0]) := by
    intro t100v0_0 x100v0_3 q100v0_1 y100v0_1_0 y100v0_1_1 y100v0_1_2 μ100v0 H locs ls hf hP hD hS hl
    unfold fX9_improve_L100v0 at hf
    refine lv_istore (lv' := [(4, .int t100v0_0), (0, .ref o), (2, .ref q100v0_1), (3, .int x100v0_3)]) hx hb dX9_improve_100 hl (by decide) rfl (fun ls hl => ?_)
    refine lv_aload_n hx hb dX9_improve_102 rfl (lv_at hl 1 rfl) ?_
    refine lv_aload_n hx hb dX9_improve_103 rfl (lv_at hl 2 rfl) ?_
    refine g_put hx hb hts S.2.2.2.1 hK hP hD hS in_X9 tyX9 tyX9_ok nmX9 16 rfl rfl 0 (by decide) q1273 (fun _ h9 => h9) rfl (v := .ref q100v0_1) rfl rfl rfl (Nat.le_of_ble_eq_true rfl) (w' := XP d z b fl μ100v0 ++ [(o, .inr (9, [.ref q100v0_1, .int (μ100v0.1 90), .int (μ100v0.1 91), .ref (b 0)])), (q100v0_1, .inr (3, [.int y100v0_1_0, .int y100v0_1_1, .int y100v0_1_2]))]) rfl dX9_improve_104 ?_
    clear hP hD hS
    intro H locs hP hD hS
    refine lv_aload_n hx hb dX9_improve_107 rfl (lv_at hl 1 rfl) ?_
    refine lv_iload_n hx hb dX9_improve_108 rfl (lv_at hl 3 rfl) ?_
    obtain ⟨ξ_43, e_ξ_43⟩ : ∃ x, x = xI μ100v0 90 x100v0_3 := ⟨_, rfl⟩
    refine g_put hx hb hts S.2.2.2.1 hK hP hD hS in_X9 tyX9 tyX9_ok nmX9 16 rfl rfl 1 (by decide) q1275 (fun _ h9 => h9) rfl (v := .int x100v0_3) rfl rfl rfl (Nat.le_of_ble_eq_true rfl) (w' := XP d z b fl ξ_43 ++ [(o, .inr (9, [.ref q100v0_1, .int (ξ_43.1 90), .int (ξ_43.1 91), .ref (b 0)])), (q100v0_1, .inr (3, [.int y100v0_1_0, .int y100v0_1_1, .int y100v0_1_2]))]) (by subst e_ξ_43; rfl) dX9_improve_109 ?_
    clear hP hD hS
    intro H locs hP hD hS
    replace hf := nm_some hf ξ_43 e_ξ_43
    clear e_ξ_43
    refine lv_iload hx hb dX9_improve_112 (lv_at hl 0 rfl) ?_
    refine W.widen (k := 5) (n := 15) (Nat.le_of_ble_eq_true rfl) (Nat.le_of_ble_eq_true rfl) ?_
    obtain ⟨g_44, hf⟩ := ga_some hf
    rw [g_44]
    exact hret q100v0_1 _ _ _ _ _ _ _ hf dX9_improve_114 hP hD hS
  have L13v5 : ∀ (x13v5_1 : Int32) (x13v5_3 : Int32) (q13v5_1 : Nat) (y13v5_1_0 : Int32) (y13v5_1_1 : Int32) (y13v5_1_2 : Int32) (μ13v5 : XS) (H : Heap) (locs : List Loc) (ls : Array Slot), fX9_improve_L13v5 K x13v5_1 x13v5_3 y13v5_1_0 y13v5_1_1 y13v5_1_2 μ13v5 = some (r, t', μ') → va_P D CL (XP d z b fl μ13v5 ++ [(o, .inr (9, [.ref q13v5_1, .int (μ13v5.1 90), .int (μ13v5.1 91), .ref (b 0)])), (q13v5_1, .inr (3, [.int y13v5_1_0, .int y13v5_1_1, .int y13v5_1_2]))]) H → va_D A (XP d z b fl μ13v5 ++ [(o, .inr (9, [.ref q13v5_1, .int (μ13v5.1 90), .int (μ13v5.1 91), .ref (b 0)])), (q13v5_1, .inr (3, [.int y13v5_1_0, .int y13v5_1_1, .int y13v5_1_2]))]) → va_S A s.heap H locs → lv_has ls 7 [(0, .ref o), (1, .int x13v5_1), (2, .ref q13v5_1), (3, .int x13v5_3), (4, .int (5 : Int32))] → W p l e (rmc 8 5 15 174) s m args below meth c H locs 5 15 Q (F0 m 13 ls []) := by
    intro x13v5_1 x13v5_3 q13v5_1 y13v5_1_0 y13v5_1_1 y13v5_1_2 μ13v5 H locs ls hf hP hD hS hl
    unfold fX9_improve_L13v5 at hf
    refine lv_iload hx hb dX9_improve_13 (lv_at hl 4 rfl) ?_
    refine lv_aload_n hx hb dX9_improve_15 rfl (lv_at hl 0 rfl) ?_
    refine g_get hx hb hts S.2.2.2.1 hK hP in_X9 16 rfl rfl 3 (by decide) q1279 (fun _ h9 => h9) (v := .ref (b 0)) rfl dX9_improve_16 ?_
    refine g_getN hx hb hts S.2.2.2.1 hK hP in_X0 0 rfl rfl 4 (by decide) q284 (fun _ h9 => h9) (v := .ref (b 3)) rfl dX9_improve_19 ?_
    refine g_len hx hb hK hP 3 6 rfl rfl (v := 5) rfl dX9_improve_22 ?_
    refine lv_icmp_ge (tgt := 87) hx hb dX9_improve_23 (by decide) (fun hc => ?_) (fun hc => absurd (by decide) hc)
    clear hc
    refine lv_iload_n hx hb dX9_improve_87 rfl (lv_at hl 3 rfl) ?_
    refine lv_aload_n hx hb dX9_improve_88 rfl (lv_at hl 0 rfl) ?_
    refine g_get hx hb hts S.2.2.2.1 hK hP in_X9 16 rfl rfl 1 (by decide) q1275 (fun _ h9 => h9) (v := .int (μ13v5.1 90)) rfl dX9_improve_89 ?_
    refine lv_icmp_ge (tgt := 99) hx hb dX9_improve_92 (by decide) (fun c_42 => ?_) (fun c_42 => ?_)
    · replace hf := it_t hf c_42
      clear c_42
      refine lv_iconst (v := 0) hx hb dX9_improve_99 (by decide) ?_
      exact L100v0 (0 : Int32) x13v5_3 q13v5_1 y13v5_1_0 y13v5_1_1 y13v5_1_2 μ13v5 _ _ _ hf hP hD hS (lv_sub hl [0, 2, 3] rfl)
    · replace hf := it_f hf c_42
      clear c_42
      refine lv_iconst (v := 1) hx hb dX9_improve_95 (by decide) ?_
      refine lv_goto (tgt := 100) hx hb dX9_improve_96 (by decide) ?_
      exact L100v0 (1 : Int32) x13v5_3 q13v5_1 y13v5_1_0 y13v5_1_1 y13v5_1_2 μ13v5 _ _ _ hf hP hD hS (lv_sub hl [0, 2, 3] rfl)
  have L81v4 : ∀ (x81v4_1 : Int32) (x81v4_3 : Int32) (q81v4_1 : Nat) (y81v4_1_0 : Int32) (y81v4_1_1 : Int32) (y81v4_1_2 : Int32) (μ81v4 : XS) (H : Heap) (locs : List Loc) (ls : Array Slot), fX9_improve_L81v4 K x81v4_1 x81v4_3 y81v4_1_0 y81v4_1_1 y81v4_1_2 μ81v4 = some (r, t', μ') → va_P D CL (XP d z b fl μ81v4 ++ [(o, .inr (9, [.ref q81v4_1, .int (μ81v4.1 90), .int (μ81v4.1 91), .ref (b 0)])), (q81v4_1, .inr (3, [.int y81v4_1_0, .int y81v4_1_1, .int y81v4_1_2]))]) H → va_D A (XP d z b fl μ81v4 ++ [(o, .inr (9, [.ref q81v4_1, .int (μ81v4.1 90), .int (μ81v4.1 91), .ref (b 0)])), (q81v4_1, .inr (3, [.int y81v4_1_0, .int y81v4_1_1, .int y81v4_1_2]))]) → va_S A s.heap H locs → lv_has ls 7 [(0, .ref o), (1, .int x81v4_1), (2, .ref q81v4_1), (3, .int x81v4_3), (4, .int (4 : Int32))] → W p l e (rmc 8 5 15 174) s m args below meth c H locs 5 15 Q (F0 m 81 ls []) := by
    intro x81v4_1 x81v4_3 q81v4_1 y81v4_1_0 y81v4_1_1 y81v4_1_2 μ81v4 H locs ls hf hP hD hS hl
    unfold fX9_improve_L81v4 at hf
    refine lv_iinc (v := (5 : Int32)) (lv' := [(4, .int (5 : Int32)), (0, .ref o), (1, .int x81v4_1), (2, .ref q81v4_1), (3, .int x81v4_3)]) hx hb dX9_improve_81 hl (k := 4) rfl rfl (by decide) rfl (fun ls hl => ?_)
    refine lv_goto (tgt := 13) hx hb dX9_improve_84 (by decide) ?_
    exact L13v5 x81v4_1 x81v4_3 q81v4_1 y81v4_1_0 y81v4_1_1 y81v4_1_2 μ81v4 _ _ _ hf hP hD hS (lv_sub hl [1, 2, 3, 4, 0] rfl)
  have L100v1 : ∀ (t100v1_0 : Int32) (x100v1_3 : Int32) (q100v1_1 : Nat) (y100v1_1_0 : Int32) (y100v1_1_1 : Int32) (y100v1_1_2 : Int32) (q100v1_2 : Nat) (y100v1_2_0 : Int32) (y100v1_2_1 : Int32) (y100v1_2_2 : Int32) (μ100v1 : XS) (H : Heap) (locs : List Loc) (ls : Array Slot), fX9_improve_L100v1 K t100v1_0 x100v1_3 y100v1_1_0 y100v1_1_1 y100v1_1_2 y100v1_2_0 y100v1_2_1 y100v1_2_2 μ100v1 = some (r, t', μ') → va_P D CL (XP d z b fl μ100v1 ++ [(o, .inr (9, [.ref q100v1_1, .int (μ100v1.1 90), .int (μ100v1.1 91), .ref (b 0)])), (q100v1_1, .inr (3, [.int y100v1_1_0, .int y100v1_1_1, .int y100v1_1_2])), (q100v1_2, .inr (3, [.int y100v1_2_0, .int y100v1_2_1, .int y100v1_2_2]))]) H → va_D A (XP d z b fl μ100v1 ++ [(o, .inr (9, [.ref q100v1_1, .int (μ100v1.1 90), .int (μ100v1.1 91), .ref (b 0)])), (q100v1_1, .inr (3, [.int y100v1_1_0, .int y100v1_1_1, .int y100v1_1_2])), (q100v1_2, .inr (3, [.int y100v1_2_0, .int y100v1_2_1, .int y100v1_2_2]))]) → va_S A s.heap H locs → lv_has ls 7 [(0, .ref o), (2, .ref q100v1_2), (3, .int x100v1_3)] → W p l e (rmc 8 5 15 174) s m args below meth c H locs 5 15 Q (F0 m 100 ls [.int t100v1_0]) := by
    intro t100v1_0 x100v1_3 q100v1_1 y100v1_1_0 y100v1_1_1 y100v1_1_2 q100v1_2 y100v1_2_0 y100v1_2_1 y100v1_2_2 μ100v1 H locs ls hf hP hD hS hl
    unfold fX9_improve_L100v1 at hf
    refine lv_istore (lv' := [(4, .int t100v1_0), (0, .ref o), (2, .ref q100v1_2), (3, .int x100v1_3)]) hx hb dX9_improve_100 hl (by decide) rfl (fun ls hl => ?_)
    refine lv_aload_n hx hb dX9_improve_102 rfl (lv_at hl 1 rfl) ?_
    refine lv_aload_n hx hb dX9_improve_103 rfl (lv_at hl 2 rfl) ?_
    refine g_put hx hb hts S.2.2.2.1 hK hP hD hS in_X9 tyX9 tyX9_ok nmX9 16 rfl rfl 0 (by decide) q1273 (fun _ h9 => h9) rfl (v := .ref q100v1_2) rfl rfl rfl (Nat.le_of_ble_eq_true rfl) (w' := XP d z b fl μ100v1 ++ [(o, .inr (9, [.ref q100v1_2, .int (μ100v1.1 90), .int (μ100v1.1 91), .ref (b 0)])), (q100v1_1, .inr (3, [.int y100v1_1_0, .int y100v1_1_1, .int y100v1_1_2])), (q100v1_2, .inr (3, [.int y100v1_2_0, .int y100v1_2_1, .int y100v1_2_2]))]) rfl dX9_improve_104 ?_
    clear hP hD hS
    intro H locs hP hD hS
    refine lv_aload_n hx hb dX9_improve_107 rfl (lv_at hl 1 rfl) ?_
    refine lv_iload_n hx hb dX9_improve_108 rfl (lv_at hl 3 rfl) ?_
    obtain ⟨ξ_46, e_ξ_46⟩ : ∃ x, x = xI μ100v1 90 x100v1_3 := ⟨_, rfl⟩
    refine g_put hx hb hts S.2.2.2.1 hK hP hD hS in_X9 tyX9 tyX9_ok nmX9 16 rfl rfl 1 (by decide) q1275 (fun _ h9 => h9) rfl (v := .int x100v1_3) rfl rfl rfl (Nat.le_of_ble_eq_true rfl) (w' := XP d z b fl ξ_46 ++ [(o, .inr (9, [.ref q100v1_2, .int (ξ_46.1 90), .int (ξ_46.1 91), .ref (b 0)])), (q100v1_1, .inr (3, [.int y100v1_1_0, .int y100v1_1_1, .int y100v1_1_2])), (q100v1_2, .inr (3, [.int y100v1_2_0, .int y100v1_2_1, .int y100v1_2_2]))]) (by subst e_ξ_46; rfl) dX9_improve_109 ?_
    clear hP hD hS
    intro H locs hP hD hS
    replace hf := nm_some hf ξ_46 e_ξ_46
    clear e_ξ_46
    refine lv_iload hx hb dX9_improve_112 (lv_at hl 0 rfl) ?_
    refine W.widen (k := 5) (n := 15) (Nat.le_of_ble_eq_true rfl) (Nat.le_of_ble_eq_true rfl) ?_
    obtain ⟨g_47, hf⟩ := ga_some hf
    rw [g_47]
    replace hP := hP.sub (ws' := XP d z b fl ξ_46 ++ [(o, .inr (9, [.ref q100v1_2, .int (ξ_46.1 90), .int (ξ_46.1 91), .ref (b 0)])), (q100v1_2, .inr (3, [.int y100v1_2_0, .int y100v1_2_1, .int y100v1_2_2]))]) [0, 1, 2, 3, 4, 5, 6, 7, 8, 9, 10, 11, 12, 13, 14, 15, 16, 18] rfl
    replace hD := hD.sub (ws' := XP d z b fl ξ_46 ++ [(o, .inr (9, [.ref q100v1_2, .int (ξ_46.1 90), .int (ξ_46.1 91), .ref (b 0)])), (q100v1_2, .inr (3, [.int y100v1_2_0, .int y100v1_2_1, .int y100v1_2_2]))]) [0, 1, 2, 3, 4, 5, 6, 7, 8, 9, 10, 11, 12, 13, 14, 15, 16, 18] (by decide) rfl
    exact hret q100v1_2 _ _ _ _ _ _ _ hf dX9_improve_114 hP hD hS
  have L13v6 : ∀ (x13v6_1 : Int32) (x13v6_3 : Int32) (q13v6_1 : Nat) (y13v6_1_0 : Int32) (y13v6_1_1 : Int32) (y13v6_1_2 : Int32) (q13v6_2 : Nat) (y13v6_2_0 : Int32) (y13v6_2_1 : Int32) (y13v6_2_2 : Int32) (μ13v6 : XS) (H : Heap) (locs : List Loc) (ls : Array Slot), fX9_improve_L13v6 K x13v6_1 x13v6_3 y13v6_1_0 y13v6_1_1 y13v6_1_2 y13v6_2_0 y13v6_2_1 y13v6_2_2 μ13v6 = some (r, t', μ') → va_P D CL (XP d z b fl μ13v6 ++ [(o, .inr (9, [.ref q13v6_1, .int (μ13v6.1 90), .int (μ13v6.1 91), .ref (b 0)])), (q13v6_1, .inr (3, [.int y13v6_1_0, .int y13v6_1_1, .int y13v6_1_2])), (q13v6_2, .inr (3, [.int y13v6_2_0, .int y13v6_2_1, .int y13v6_2_2]))]) H → va_D A (XP d z b fl μ13v6 ++ [(o, .inr (9, [.ref q13v6_1, .int (μ13v6.1 90), .int (μ13v6.1 91), .ref (b 0)])), (q13v6_1, .inr (3, [.int y13v6_1_0, .int y13v6_1_1, .int y13v6_1_2])), (q13v6_2, .inr (3, [.int y13v6_2_0, .int y13v6_2_1, .int y13v6_2_2]))]) → va_S A s.heap H locs → lv_has ls 7 [(0, .ref o), (1, .int x13v6_1), (2, .ref q13v6_2), (3, .int x13v6_3), (4, .int (5 : Int32))] → W p l e (rmc 8 5 15 174) s m args below meth c H locs 5 15 Q (F0 m 13 ls []) := by
    intro x13v6_1 x13v6_3 q13v6_1 y13v6_1_0 y13v6_1_1 y13v6_1_2 q13v6_2 y13v6_2_0 y13v6_2_1 y13v6_2_2 μ13v6 H locs ls hf hP hD hS hl
    unfold fX9_improve_L13v6 at hf
    refine lv_iload hx hb dX9_improve_13 (lv_at hl 4 rfl) ?_
    refine lv_aload_n hx hb dX9_improve_15 rfl (lv_at hl 0 rfl) ?_
    refine g_get hx hb hts S.2.2.2.1 hK hP in_X9 16 rfl rfl 3 (by decide) q1279 (fun _ h9 => h9) (v := .ref (b 0)) rfl dX9_improve_16 ?_
    refine g_getN hx hb hts S.2.2.2.1 hK hP in_X0 0 rfl rfl 4 (by decide) q284 (fun _ h9 => h9) (v := .ref (b 3)) rfl dX9_improve_19 ?_
    refine g_len hx hb hK hP 3 6 rfl rfl (v := 5) rfl dX9_improve_22 ?_
    refine lv_icmp_ge (tgt := 87) hx hb dX9_improve_23 (by decide) (fun hc => ?_) (fun hc => absurd (by decide) hc)
    clear hc
    refine lv_iload_n hx hb dX9_improve_87 rfl (lv_at hl 3 rfl) ?_
    refine lv_aload_n hx hb dX9_improve_88 rfl (lv_at hl 0 rfl) ?_
    refine g_get hx hb hts S.2.2.2.1 hK hP in_X9 16 rfl rfl 1 (by decide) q1275 (fun _ h9 => h9) (v := .int (μ13v6.1 90)) rfl dX9_improve_89 ?_
    refine lv_icmp_ge (tgt := 99) hx hb dX9_improve_92 (by decide) (fun c_45 => ?_) (fun c_45 => ?_)
    · replace hf := it_t hf c_45
      clear c_45
      refine lv_iconst (v := 0) hx hb dX9_improve_99 (by decide) ?_
      exact L100v1 (0 : Int32) x13v6_3 q13v6_1 y13v6_1_0 y13v6_1_1 y13v6_1_2 q13v6_2 y13v6_2_0 y13v6_2_1 y13v6_2_2 μ13v6 _ _ _ hf hP hD hS (lv_sub hl [0, 2, 3] rfl)
    · replace hf := it_f hf c_45
      clear c_45
      refine lv_iconst (v := 1) hx hb dX9_improve_95 (by decide) ?_
      refine lv_goto (tgt := 100) hx hb dX9_improve_96 (by decide) ?_
      exact L100v1 (1 : Int32) x13v6_3 q13v6_1 y13v6_1_0 y13v6_1_1 y13v6_1_2 q13v6_2 y13v6_2_0 y13v6_2_1 y13v6_2_2 μ13v6 _ _ _ hf hP hD hS (lv_sub hl [0, 2, 3] rfl)
  have L81v5 : ∀ (x81v5_1 : Int32) (x81v5_3 : Int32) (q81v5_1 : Nat) (y81v5_1_0 : Int32) (y81v5_1_1 : Int32) (y81v5_1_2 : Int32) (q81v5_2 : Nat) (y81v5_2_0 : Int32) (y81v5_2_1 : Int32) (y81v5_2_2 : Int32) (μ81v5 : XS) (H : Heap) (locs : List Loc) (ls : Array Slot), fX9_improve_L81v5 K x81v5_1 x81v5_3 y81v5_1_0 y81v5_1_1 y81v5_1_2 y81v5_2_0 y81v5_2_1 y81v5_2_2 μ81v5 = some (r, t', μ') → va_P D CL (XP d z b fl μ81v5 ++ [(o, .inr (9, [.ref q81v5_1, .int (μ81v5.1 90), .int (μ81v5.1 91), .ref (b 0)])), (q81v5_1, .inr (3, [.int y81v5_1_0, .int y81v5_1_1, .int y81v5_1_2])), (q81v5_2, .inr (3, [.int y81v5_2_0, .int y81v5_2_1, .int y81v5_2_2]))]) H → va_D A (XP d z b fl μ81v5 ++ [(o, .inr (9, [.ref q81v5_1, .int (μ81v5.1 90), .int (μ81v5.1 91), .ref (b 0)])), (q81v5_1, .inr (3, [.int y81v5_1_0, .int y81v5_1_1, .int y81v5_1_2])), (q81v5_2, .inr (3, [.int y81v5_2_0, .int y81v5_2_1, .int y81v5_2_2]))]) → va_S A s.heap H locs → lv_has ls 7 [(0, .ref o), (1, .int x81v5_1), (2, .ref q81v5_2), (3, .int x81v5_3), (4, .int (4 : Int32))] → W p l e (rmc 8 5 15 174) s m args below meth c H locs 5 15 Q (F0 m 81 ls []) := by
    intro x81v5_1 x81v5_3 q81v5_1 y81v5_1_0 y81v5_1_1 y81v5_1_2 q81v5_2 y81v5_2_0 y81v5_2_1 y81v5_2_2 μ81v5 H locs ls hf hP hD hS hl
    unfold fX9_improve_L81v5 at hf
    refine lv_iinc (v := (5 : Int32)) (lv' := [(4, .int (5 : Int32)), (0, .ref o), (1, .int x81v5_1), (2, .ref q81v5_2), (3, .int x81v5_3)]) hx hb dX9_improve_81 hl (k := 4) rfl rfl (by decide) rfl (fun ls hl => ?_)
    refine lv_goto (tgt := 13) hx hb dX9_improve_84 (by decide) ?_
    exact L13v6 x81v5_1 x81v5_3 q81v5_1 y81v5_1_0 y81v5_1_1 y81v5_1_2 q81v5_2 y81v5_2_0 y81v5_2_1 y81v5_2_2 μ81v5 _ _ _ hf hP hD hS (lv_sub hl [1, 2, 3, 4, 0] rfl)
  have L67v4 : ∀ (t67v4_0 : Int32) (x67v4_1 : Int32) (x67v4_3 : Int32) (q67v4_1 : Nat) (y67v4_1_0 : Int32) (y67v4_1_1 : Int32) (y67v4_1_2 : Int32) (q67v4_2 : Nat) (y67v4_2_0 : Int32) (y67v4_2_1 : Int32) (y67v4_2_2 : Int32) (μ67v4 : XS) (H : Heap) (locs : List Loc) (ls : Array Slot), fX9_improve_L67v4 K t67v4_0 x67v4_1 x67v4_3 y67v4_1_0 y67v4_1_1 y67v4_1_2 y67v4_2_0 y67v4_2_1 y67v4_2_2 μ67v4 = some (r, t', μ') → va_P D CL (XP d z b fl μ67v4 ++ [(o, .inr (9, [.ref q67v4_1, .int (μ67v4.1 90), .int (μ67v4.1 91), .ref (b 0)])), (q67v4_1, .inr (3, [.int y67v4_1_0, .int y67v4_1_1, .int y67v4_1_2])), (q67v4_2, .inr (3, [.int y67v4_2_0, .int y67v4_2_1, .int y67v4_2_2]))]) H → va_D A (XP d z b fl μ67v4 ++ [(o, .inr (9, [.ref q67v4_1, .int (μ67v4.1 90), .int (μ67v4.1 91), .ref (b 0)])), (q67v4_1, .inr (3, [.int y67v4_1_0, .int y67v4_1_1, .int y67v4_1_2])), (q67v4_2, .inr (3, [.int y67v4_2_0, .int y67v4_2_1, .int y67v4_2_2]))]) → va_S A s.heap H locs → lv_has ls 7 [(0, .ref o), (1, .int x67v4_1), (2, .ref q67v4_1), (3, .int x67v4_3), (4, .int (4 : Int32)), (5, .ref q67v4_2)] → W p l e (rmc 8 5 15 174) s m args below meth c H locs 5 15 Q (F0 m 67 ls [.int t67v4_0]) := by
    intro t67v4_0 x67v4_1 x67v4_3 q67v4_1 y67v4_1_0 y67v4_1_1 y67v4_1_2 q67v4_2 y67v4_2_0 y67v4_2_1 y67v4_2_2 μ67v4 H locs ls hf hP hD hS hl
    unfold fX9_improve_L67v4 at hf
    refine lv_istore (lv' := [(6, .int t67v4_0), (0, .ref o), (1, .int x67v4_1), (2, .ref q67v4_1), (3, .int x67v4_3), (4, .int (4 : Int32)), (5, .ref q67v4_2)]) hx hb dX9_improve_67 hl (by decide) rfl (fun ls hl => ?_)
    refine lv_iload hx hb dX9_improve_69 (lv_at hl 0 rfl) ?_
    refine lv_iload_n hx hb dX9_improve_71 rfl (lv_at hl 4 rfl) ?_
    refine lv_icmp_ge (tgt := 81) hx hb dX9_improve_72 (by decide) (fun c_41 => ?_) (fun c_41 => ?_)
    · replace hf := it_t hf c_41
      clear c_41
      replace hP := hP.sub (ws' := XP d z b fl μ67v4 ++ [(o, .inr (9, [.ref q67v4_1, .int (μ67v4.1 90), .int (μ67v4.1 91), .ref (b 0)])), (q67v4_1, .inr (3, [.int y67v4_1_0, .int y67v4_1_1, .int y67v4_1_2]))]) [0, 1, 2, 3, 4, 5, 6, 7, 8, 9, 10, 11, 12, 13, 14, 15, 16, 17] rfl
      replace hD := hD.sub (ws' := XP d z b fl μ67v4 ++ [(o, .inr (9, [.ref q67v4_1, .int (μ67v4.1 90), .int (μ67v4.1 91), .ref (b 0)])), (q67v4_1, .inr (3, [.int y67v4_1_0, .int y67v4_1_1, .int y67v4_1_2]))]) [0, 1, 2, 3, 4, 5, 6, 7, 8, 9, 10, 11, 12, 13, 14, 15, 16, 17] (by decide) rfl
      exact L81v4 x67v4_1 x67v4_3 q67v4_1 y67v4_1_0 y67v4_1_1 y67v4_1_2 μ67v4 _ _ _ hf hP hD hS (lv_sub hl [1, 2, 3, 4, 5] rfl)
    · replace hf := it_f hf c_41
      clear c_41
      refine lv_aload hx hb dX9_improve_75 (lv_at hl 6 rfl) ?_
      refine lv_astore_n (lv' := [(2, .ref q67v4_2), (6, .int t67v4_0), (0, .ref o), (1, .int x67v4_1), (3, .int x67v4_3), (4, .int (4 : Int32)), (5, .ref q67v4_2)]) hx hb dX9_improve_77 rfl hl (by decide) rfl (fun ls hl => ?_)
      refine lv_iload hx hb dX9_improve_78 (lv_at hl 1 rfl) ?_
      refine lv_istore_n (lv' := [(3, .int t67v4_0), (2, .ref q67v4_2), (6, .int t67v4_0), (0, .ref o), (1, .int x67v4_1), (4, .int (4 : Int32)), (5, .ref q67v4_2)]) hx hb dX9_improve_80 rfl hl (by decide) rfl (fun ls hl => ?_)
      exact L81v5 x67v4_1 t67v4_0 q67v4_1 y67v4_1_0 y67v4_1_1 y67v4_1_2 q67v4_2 y67v4_2_0 y67v4_2_1 y67v4_2_2 μ67v4 _ _ _ hf hP hD hS (lv_sub hl [3, 4, 1, 0, 5] rfl)
  have L13v4 : ∀ (x13v4_1 : Int32) (x13v4_3 : Int32) (q13v4_1 : Nat) (y13v4_1_0 : Int32) (y13v4_1_1 : Int32) (y13v4_1_2 : Int32) (μ13v4 : XS) (H : Heap) (locs : List Loc) (ls : Array Slot), fX9_improve_L13v4 K x13v4_1 x13v4_3 y13v4_1_0 y13v4_1_1 y13v4_1_2 μ13v4 = some (r, t', μ') → va_P D CL (XP d z b fl μ13v4 ++ [(o, .inr (9, [.ref q13v4_1, .int (μ13v4.1 90), .int (μ13v4.1 91), .ref (b 0)])), (q13v4_1, .inr (3, [.int y13v4_1_0, .int y13v4_1_1, .int y13v4_1_2]))]) H → va_D A (XP d z b fl μ13v4 ++ [(o, .inr (9, [.ref q13v4_1, .int (μ13v4.1 90), .int (μ13v4.1 91), .ref (b 0)])), (q13v4_1, .inr (3, [.int y13v4_1_0, .int y13v4_1_1, .int y13v4_1_2]))]) → va_S A s.heap H locs → lv_has ls 7 [(0, .ref o), (1, .int x13v4_1), (2, .ref q13v4_1), (3, .int x13v4_3), (4, .int (4 : Int32))] → W p l e (rmc 8 5 15 174) s m args below meth c H locs 4 12 Q (F0 m 13 ls []) := by
    intro x13v4_1 x13v4_3 q13v4_1 y13v4_1_0 y13v4_1_1 y13v4_1_2 μ13v4 H locs ls hf hP hD hS hl
    unfold fX9_improve_L13v4 at hf
    refine lv_iload hx hb dX9_improve_13 (lv_at hl 4 rfl) ?_
    refine lv_aload_n hx hb dX9_improve_15 rfl (lv_at hl 0 rfl) ?_
    refine g_get hx hb hts S.2.2.2.1 hK hP in_X9 16 rfl rfl 3 (by decide) q1279 (fun _ h9 => h9) (v := .ref (b 0)) rfl dX9_improve_16 ?_
    refine g_getN hx hb hts S.2.2.2.1 hK hP in_X0 0 rfl rfl 4 (by decide) q284 (fun _ h9 => h9) (v := .ref (b 3)) rfl dX9_improve_19 ?_
    refine g_len hx hb hK hP 3 6 rfl rfl (v := 5) rfl dX9_improve_22 ?_
    refine lv_icmp_ge (tgt := 87) hx hb dX9_improve_23 (by decide) (fun hc => absurd hc (by decide)) (fun hc => ?_)
    clear hc
    refine lv_aload_n hx hb dX9_improve_26 rfl (lv_at hl 0 rfl) ?_
    refine g_get hx hb hts S.2.2.2.1 hK hP in_X9 16 rfl rfl 3 (by decide) q1279 (fun _ h9 => h9) (v := .ref (b 0)) rfl dX9_improve_27 ?_
    refine g_getN hx hb hts S.2.2.2.1 hK hP in_X0 0 rfl rfl 4 (by decide) q284 (fun _ h9 => h9) (v := .ref (b 3)) rfl dX9_improve_30 ?_
    refine lv_iload hx hb dX9_improve_33 (lv_at hl 4 rfl) ?_
    refine g_aald hx hb hK hP 3 6 rfl rfl (ix_in (by decide)) dX9_improve_35 ?_
    refine lv_aload_n hx hb dX9_improve_36 rfl (lv_at hl 0 rfl) ?_
    refine g_get hx hb hts S.2.2.2.1 hK hP in_X9 16 rfl rfl 0 (by decide) q1273 (fun _ h9 => h9) (v := .ref q13v4_1) rfl dX9_improve_37 ?_
    refine lv_iload_n hx hb dX9_improve_40 rfl (lv_at hl 1 rfl) ?_
    obtain ⟨r_35, h_36, hf⟩ := b1_some hf
    refine run5_rS0 (wr := [(b 0, .inr (1, [.ref (b 1), .int (μ13v4.1 1), .int (μ13v4.1 2), .ref (b 2), .ref (b 3), .ref (b 4), va_rf fl, .ref (b 7), .ref (b 13), .ref (b 16), .int (μ13v4.1 10)])), (b 1, .inl (d 2, 500, .inl (μ13v4.2.2.1 1))), (b 2, .inl (d 5, 2, .inr (.inr (.inr (.inr (fun j => some (z.2.2 j))))))), (b 3, .inl (d 6, 5, .inr (.inr (.inr (.inr (fun j => some (z.2.2 (2 + j)))))))), (b 4, .inr (4, [.int (μ13v4.1 20), .long (μ13v4.2.1 21), .long (μ13v4.2.1 22), .long (μ13v4.2.1 23), .ref (b 5), .ref (b 6), .ref (b 0)])), (b 5, .inr (2, [.long (μ13v4.2.1 30), .long (μ13v4.2.1 31)])), (b 6, .inr (2, [.long (μ13v4.2.1 32), .long (μ13v4.2.1 33)])), (b 7, .inr (6, [.int (μ13v4.1 40), .int (μ13v4.1 41), .int (μ13v4.1 42), .int (μ13v4.1 43), .int (μ13v4.1 44), .int (μ13v4.1 45), .ref (b 8), .ref (b 9), .ref (b 10), .int (μ13v4.1 49), .ref (b 11), .ref (b 12), .int (μ13v4.1 52)])), (b 8, .inl (d 0, 16, .inl (μ13v4.2.2.1 46))), (b 9, .inl (d 1, 16, .inr (.inl (μ13v4.2.2.2.1 47)))), (b 10, .inl (d 1, 16, .inr (.inl (μ13v4.2.2.2.1 48)))), (b 11, .inl (d 0, 8, .inl (μ13v4.2.2.1 50))), (b 12, .inl (d 0, 8, .inl (μ13v4.2.2.1 51))), (b 13, .inr (8, [.int (μ13v4.1 60), .int (μ13v4.1 61), .int (μ13v4.1 62), .int (μ13v4.1 63), .ref (b 14), .ref (b 15), .int (μ13v4.1 66), .ref (b 17)])), (b 14, .inl (d 0, 100, .inl (μ13v4.2.2.1 64))), (b 15, .inl (d 3, 100, .inl (μ13v4.2.2.1 65))), (o, .inr (9, [.ref q13v4_1, .int (μ13v4.1 90), .int (μ13v4.1 91), .ref (b 0)]))]) (w' := fun u => XP d z b fl μ13v4 ++ [(o, .inr (9, [.ref q13v4_1, .int (μ13v4.1 90), .int (μ13v4.1 91), .ref (b 0)])), (q13v4_1, .inr (3, [.int y13v4_1_0, .int y13v4_1_1, .int y13v4_1_2])), (u, .inr (3, [.int r_35.1, .int r_35.2.1, .int r_35.2.2]))]) (lam_run (As := [.ref q13v4_1, .int x13v4_1]) (rest := []) (j := 6) S (by decide) (hZ.2.2.2.2.2.2.1 6 (by decide)) hS (tX0_lambda_new_4 l D d z K q13v4_1 (y13v4_1_0, y13v4_1_1, y13v4_1_2) x13v4_1 r_35 h_36 _) q1264 q206 q94 q207 rfl rfl ⟨(Nat.le_of_ble_eq_true rfl), (Nat.le_of_ble_eq_true rfl)⟩ ⟨Pw.blind, fun U hU hW => Pw.cut (tl := []) hK (by rw [List.append_nil]; exact hP) (by rw [List.append_nil]; exact hD) hZ hS hA [17] rfl rfl hU hW⟩ rfl (by rw [if_neg (by decide)]; exact ⟨_, _, rfl⟩) hl.1 rfl (lv_room (Nat.le_of_ble_eq_true rfl)) dX9_improve_41 ⟨(Nat.le_of_ble_eq_true rfl), (Nat.le_of_ble_eq_true rfl)⟩ (lam_hvR (by decide))) hP hD hS hA [17] [0, 1, 2, 3, 4, 5, 6, 7, 8, 9, 10, 11, 12, 13, 14, 15, 16] [0, 1, 2, 3, 4, 5, 6, 7, 8, 9, 10, 11, 12, 13, 14, 15, 16, 17, 18] rfl rfl rfl rfl (by decide) rfl (fun _ => rfl) ?_
    clear hP hD hS
    intro q_37 _ H locs hP hD hS
    clear h_36
    refine lv_astore (lv' := [(5, .ref q_37), (0, .ref o), (1, .int x13v4_1), (2, .ref q13v4_1), (3, .int x13v4_3), (4, .int (4 : Int32))]) hx hb dX9_improve_46 hl (by decide) rfl (fun ls hl => ?_)
    refine lv_aload hx hb dX9_improve_48 (lv_at hl 0 rfl) ?_
    obtain ⟨r_39, h_38, hf⟩ := b1_some hf
    refine run_i0 (wr := [(b 0, .inr (1, [.ref (b 1), .int (μ13v4.1 1), .int (μ13v4.1 2), .ref (b 2), .ref (b 3), .ref (b 4), va_rf fl, .ref (b 7), .ref (b 13), .ref (b 16), .int (μ13v4.1 10)])), (b 1, .inl (d 2, 500, .inl (μ13v4.2.2.1 1))), (b 2, .inl (d 5, 2, .inr (.inr (.inr (.inr (fun j => some (z.2.2 j))))))), (b 3, .inl (d 6, 5, .inr (.inr (.inr (.inr (fun j => some (z.2.2 (2 + j)))))))), (b 4, .inr (4, [.int (μ13v4.1 20), .long (μ13v4.2.1 21), .long (μ13v4.2.1 22), .long (μ13v4.2.1 23), .ref (b 5), .ref (b 6), .ref (b 0)])), (b 5, .inr (2, [.long (μ13v4.2.1 30), .long (μ13v4.2.1 31)])), (b 6, .inr (2, [.long (μ13v4.2.1 32), .long (μ13v4.2.1 33)])), (b 7, .inr (6, [.int (μ13v4.1 40), .int (μ13v4.1 41), .int (μ13v4.1 42), .int (μ13v4.1 43), .int (μ13v4.1 44), .int (μ13v4.1 45), .ref (b 8), .ref (b 9), .ref (b 10), .int (μ13v4.1 49), .ref (b 11), .ref (b 12), .int (μ13v4.1 52)])), (b 8, .inl (d 0, 16, .inl (μ13v4.2.2.1 46))), (b 9, .inl (d 1, 16, .inr (.inl (μ13v4.2.2.2.1 47)))), (b 10, .inl (d 1, 16, .inr (.inl (μ13v4.2.2.2.1 48)))), (b 11, .inl (d 0, 8, .inl (μ13v4.2.2.1 50))), (b 12, .inl (d 0, 8, .inl (μ13v4.2.2.1 51))), (b 13, .inr (8, [.int (μ13v4.1 60), .int (μ13v4.1 61), .int (μ13v4.1 62), .int (μ13v4.1 63), .ref (b 14), .ref (b 15), .int (μ13v4.1 66), .ref (b 17)])), (b 14, .inl (d 0, 100, .inl (μ13v4.2.2.1 64))), (b 15, .inl (d 3, 100, .inl (μ13v4.2.2.1 65))), (o, .inr (9, [.ref q13v4_1, .int (μ13v4.1 90), .int (μ13v4.1 91), .ref (b 0)])), (q13v4_1, .inr (3, [.int y13v4_1_0, .int y13v4_1_1, .int y13v4_1_2]))]) (w' := XP d z b fl μ13v4 ++ [(o, .inr (9, [.ref q13v4_1, .int (μ13v4.1 90), .int (μ13v4.1 91), .ref (b 0)])), (q13v4_1, .inr (3, [.int y13v4_1_0, .int y13v4_1_1, .int y13v4_1_2])), (q_37, .inr (3, [.int r_35.1, .int r_35.2.1, .int r_35.2.2]))]) (va_runV (As := []) (rest := []) S (tX2_isPossibleq l D d z q_37 K (r_35.1, r_35.2.1, r_35.2.2) r_39 h_38 _) (cwV 0 hts (lw_V q1267 q1268 q1269 q97 q1270) rfl rfl rfl (by decide +kernel) ⟨(Nat.le_of_ble_eq_true rfl), (Nat.le_of_ble_eq_true rfl)⟩) ⟨Pw.blind, (va_recv hK.1 hP (ci := 3) (q0 := 18) rfl rfl), fun U hU hW => Pw.cut (tl := []) hK (by rw [List.append_nil]; exact hP) (by rw [List.append_nil]; exact hD) hZ hS hA [18] rfl rfl hU hW⟩ rfl rfl hl.1 rfl (lv_room (Nat.le_of_ble_eq_true rfl)) dX9_improve_50 ⟨(Nat.le_of_ble_eq_true rfl), (Nat.le_of_ble_eq_true rfl)⟩) hP hD hS hA [18] [0, 1, 2, 3, 4, 5, 6, 7, 8, 9, 10, 11, 12, 13, 14, 15, 16, 17] [0, 1, 2, 3, 4, 5, 6, 7, 8, 9, 10, 11, 12, 13, 14, 15, 16, 17, 18] rfl rfl rfl rfl (by decide) rfl rfl ?_
    clear hP hD hS
    intro H locs hP hD hS
    clear h_38
    refine lv_if_eq (tgt := 65) hx hb dX9_improve_53 (by decide) (fun c_40 => ?_) (fun c_40 => ?_)
    · replace hf := it_f hf (bi_e0 c_40)
      clear c_40
      refine lv_ldc hx hb S.2.2.2.1 (hts _ q1272) dX9_improve_65 ?_
      exact L67v4 (99999 : Int32) x13v4_1 x13v4_3 q13v4_1 y13v4_1_0 y13v4_1_1 y13v4_1_2 q_37 r_35.1 r_35.2.1 r_35.2.2 μ13v4 _ _ _ hf hP hD hS (lv_sub hl [1, 2, 3, 4, 5, 0] rfl)
    · replace hf := it_t hf (bi_n0 c_40)
      clear c_40
      refine lv_aload_n hx hb dX9_improve_56 rfl (lv_at hl 1 rfl) ?_
      refine lv_aload hx hb dX9_improve_57 (lv_at hl 0 rfl) ?_
      obtain ⟨r_50, ξ_49, h_48, hf⟩ := b2_some hf
      refine run_i0 (wr := [(q13v4_1, .inr (3, [.int y13v4_1_0, .int y13v4_1_1, .int y13v4_1_2]))]) (w' := XP d z b fl ξ_49 ++ [(o, .inr (9, [.ref q13v4_1, .int (ξ_49.1 90), .int (ξ_49.1 91), .ref (b 0)])), (q13v4_1, .inr (3, [.int y13v4_1_0, .int y13v4_1_1, .int y13v4_1_2])), (q_37, .inr (3, [.int r_35.1, .int r_35.2.1, .int r_35.2.2]))]) (va_runV (As := [.ref q_37]) (rest := []) S (tX9_evaluate l D d z b fl K o q13v4_1 q_37 (r_35.1, r_35.2.1, r_35.2.2) μ13v4 r_50 ξ_49 h_48 _) (cwV 1 hts (lw_V q1253 q1255 qs36 q121 q1256) rfl rfl rfl (by decide +kernel) ⟨(Nat.le_of_ble_eq_true rfl), (Nat.le_of_ble_eq_true rfl)⟩) ⟨Pw.blind, (va_recv hK.1 hP (ci := 9) (q0 := 16) rfl rfl), fun U hU hW => Pw.cut (tl := []) hK (by rw [List.append_nil]; exact hP) (by rw [List.append_nil]; exact hD) hZ hS hA [0, 1, 2, 3, 4, 5, 6, 7, 8, 9, 10, 11, 12, 13, 14, 15, 16, 18] rfl rfl hU hW⟩ rfl rfl hl.1 rfl (lv_room (Nat.le_of_ble_eq_true rfl)) dX9_improve_59 ⟨(Nat.le_of_ble_eq_true rfl), (Nat.le_of_ble_eq_true rfl)⟩) hP hD hS hA [0, 1, 2, 3, 4, 5, 6, 7, 8, 9, 10, 11, 12, 13, 14, 15, 16, 18] [17] [1, 2, 3, 4, 5, 6, 7, 8, 9, 10, 11, 12, 13, 14, 15, 16, 17, 0, 18] rfl rfl rfl rfl (by decide) rfl rfl ?_
      clear hP hD hS
      intro H locs hP hD hS
      clear h_48
      refine lv_goto (tgt := 67) hx hb dX9_improve_62 (by decide) ?_
      exact L67v4 r_50 x13v4_1 x13v4_3 q13v4_1 y13v4_1_0 y13v4_1_1 y13v4_1_2 q_37 r_35.1 r_35.2.1 r_35.2.2 ξ_49 _ _ _ hf hP hD hS (lv_sub hl [1, 2, 3, 4, 5, 0] rfl)
  have L81v3 : ∀ (x81v3_1 : Int32) (x81v3_3 : Int32) (q81v3_1 : Nat) (y81v3_1_0 : Int32) (y81v3_1_1 : Int32) (y81v3_1_2 : Int32) (μ81v3 : XS) (H : Heap) (locs : List Loc) (ls : Array Slot), fX9_improve_L81v3 K x81v3_1 x81v3_3 y81v3_1_0 y81v3_1_1 y81v3_1_2 μ81v3 = some (r, t', μ') → va_P D CL (XP d z b fl μ81v3 ++ [(o, .inr (9, [.ref q81v3_1, .int (μ81v3.1 90), .int (μ81v3.1 91), .ref (b 0)])), (q81v3_1, .inr (3, [.int y81v3_1_0, .int y81v3_1_1, .int y81v3_1_2]))]) H → va_D A (XP d z b fl μ81v3 ++ [(o, .inr (9, [.ref q81v3_1, .int (μ81v3.1 90), .int (μ81v3.1 91), .ref (b 0)])), (q81v3_1, .inr (3, [.int y81v3_1_0, .int y81v3_1_1, .int y81v3_1_2]))]) → va_S A s.heap H locs → lv_has ls 7 [(0, .ref o), (1, .int x81v3_1), (2, .ref q81v3_1), (3, .int x81v3_3), (4, .int (3 : Int32))] → W p l e (rmc 8 5 15 174) s m args below meth c H locs 4 12 Q (F0 m 81 ls []) := by
    intro x81v3_1 x81v3_3 q81v3_1 y81v3_1_0 y81v3_1_1 y81v3_1_2 μ81v3 H locs ls hf hP hD hS hl
    unfold fX9_improve_L81v3 at hf
    refine lv_iinc (v := (4 : Int32)) (lv' := [(4, .int (4 : Int32)), (0, .ref o), (1, .int x81v3_1), (2, .ref q81v3_1), (3, .int x81v3_3)]) hx hb dX9_improve_81 hl (k := 4) rfl rfl (by decide) rfl (fun ls hl => ?_)
    refine lv_goto (tgt := 13) hx hb dX9_improve_84 (by decide) ?_
    exact L13v4 x81v3_1 x81v3_3 q81v3_1 y81v3_1_0 y81v3_1_1 y81v3_1_2 μ81v3 _ _ _ hf hP hD hS (lv_sub hl [1, 2, 3, 4, 0] rfl)
  have L67v5 : ∀ (t67v5_0 : Int32) (x67v5_1 : Int32) (x67v5_3 : Int32) (q67v5_1 : Nat) (y67v5_1_0 : Int32) (y67v5_1_1 : Int32) (y67v5_1_2 : Int32) (q67v5_2 : Nat) (y67v5_2_0 : Int32) (y67v5_2_1 : Int32) (y67v5_2_2 : Int32) (q67v5_3 : Nat) (y67v5_3_0 : Int32) (y67v5_3_1 : Int32) (y67v5_3_2 : Int32) (μ67v5 : XS) (H : Heap) (locs : List Loc) (ls : Array Slot), fX9_improve_L67v5 K t67v5_0 x67v5_1 x67v5_3 y67v5_1_0 y67v5_1_1 y67v5_1_2 y67v5_2_0 y67v5_2_1 y67v5_2_2 y67v5_3_0 y67v5_3_1 y67v5_3_2 μ67v5 = some (r, t', μ') → va_P D CL (XP d z b fl μ67v5 ++ [(o, .inr (9, [.ref q67v5_1, .int (μ67v5.1 90), .int (μ67v5.1 91), .ref (b 0)])), (q67v5_1, .inr (3, [.int y67v5_1_0, .int y67v5_1_1, .int y67v5_1_2])), (q67v5_2, .inr (3, [.int y67v5_2_0, .int y67v5_2_1, .int y67v5_2_2])), (q67v5_3, .inr (3, [.int y67v5_3_0, .int y67v5_3_1, .int y67v5_3_2]))]) H → va_D A (XP d z b fl μ67v5 ++ [(o, .inr (9, [.ref q67v5_1, .int (μ67v5.1 90), .int (μ67v5.1 91), .ref (b 0)])), (q67v5_1, .inr (3, [.int y67v5_1_0, .int y67v5_1_1, .int y67v5_1_2])), (q67v5_2, .inr (3, [.int y67v5_2_0, .int y67v5_2_1, .int y67v5_2_2])), (q67v5_3, .inr (3, [.int y67v5_3_0, .int y67v5_3_1, .int y67v5_3_2]))]) → va_S A s.heap H locs → lv_has ls 7 [(0, .ref o), (1, .int x67v5_1), (2, .ref q67v5_2), (3, .int x67v5_3), (4, .int (4 : Int32)), (5, .ref q67v5_3)] → W p l e (rmc 8 5 15 174) s m args below meth c H locs 5 15 Q (F0 m 67 ls [.int t67v5_0]) := by
    intro t67v5_0 x67v5_1 x67v5_3 q67v5_1 y67v5_1_0 y67v5_1_1 y67v5_1_2 q67v5_2 y67v5_2_0 y67v5_2_1 y67v5_2_2 q67v5_3 y67v5_3_0 y67v5_3_1 y67v5_3_2 μ67v5 H locs ls hf hP hD hS hl
    unfold fX9_improve_L67v5 at hf
    refine lv_istore (lv' := [(6, .int t67v5_0), (0, .ref o), (1, .int x67v5_1), (2, .ref q67v5_2), (3, .int x67v5_3), (4, .int (4 : Int32)), (5, .ref q67v5_3)]) hx hb dX9_improve_67 hl (by decide) rfl (fun ls hl => ?_)
    refine lv_iload hx hb dX9_improve_69 (lv_at hl 0 rfl) ?_
    refine lv_iload_n hx hb dX9_improve_71 rfl (lv_at hl 4 rfl) ?_
    refine lv_icmp_ge (tgt := 81) hx hb dX9_improve_72 (by decide) (fun c_58 => ?_) (fun c_58 => ?_)
    · replace hf := it_t hf c_58
      clear c_58
      replace hP := hP.sub (ws' := XP d z b fl μ67v5 ++ [(o, .inr (9, [.ref q67v5_1, .int (μ67v5.1 90), .int (μ67v5.1 91), .ref (b 0)])), (q67v5_1, .inr (3, [.int y67v5_1_0, .int y67v5_1_1, .int y67v5_1_2])), (q67v5_2, .inr (3, [.int y67v5_2_0, .int y67v5_2_1, .int y67v5_2_2]))]) [0, 1, 2, 3, 4, 5, 6, 7, 8, 9, 10, 11, 12, 13, 14, 15, 16, 17, 18] rfl
      replace hD := hD.sub (ws' := XP d z b fl μ67v5 ++ [(o, .inr (9, [.ref q67v5_1, .int (μ67v5.1 90), .int (μ67v5.1 91), .ref (b 0)])), (q67v5_1, .inr (3, [.int y67v5_1_0, .int y67v5_1_1, .int y67v5_1_2])), (q67v5_2, .inr (3, [.int y67v5_2_0, .int y67v5_2_1, .int y67v5_2_2]))]) [0, 1, 2, 3, 4, 5, 6, 7, 8, 9, 10, 11, 12, 13, 14, 15, 16, 17, 18] (by decide) rfl
      exact L81v5 x67v5_1 x67v5_3 q67v5_1 y67v5_1_0 y67v5_1_1 y67v5_1_2 q67v5_2 y67v5_2_0 y67v5_2_1 y67v5_2_2 μ67v5 _ _ _ hf hP hD hS (lv_sub hl [1, 2, 3, 4, 5] rfl)
    · replace hf := it_f hf c_58
      clear c_58
      refine lv_aload hx hb dX9_improve_75 (lv_at hl 6 rfl) ?_
      refine lv_astore_n (lv' := [(2, .ref q67v5_3), (6, .int t67v5_0), (0, .ref o), (1, .int x67v5_1), (3, .int x67v5_3), (4, .int (4 : Int32)), (5, .ref q67v5_3)]) hx hb dX9_improve_77 rfl hl (by decide) rfl (fun ls hl => ?_)
      refine lv_iload hx hb dX9_improve_78 (lv_at hl 1 rfl) ?_
      refine lv_istore_n (lv' := [(3, .int t67v5_0), (2, .ref q67v5_3), (6, .int t67v5_0), (0, .ref o), (1, .int x67v5_1), (4, .int (4 : Int32)), (5, .ref q67v5_3)]) hx hb dX9_improve_80 rfl hl (by decide) rfl (fun ls hl => ?_)
      replace hP := hP.sub (ws' := XP d z b fl μ67v5 ++ [(o, .inr (9, [.ref q67v5_1, .int (μ67v5.1 90), .int (μ67v5.1 91), .ref (b 0)])), (q67v5_1, .inr (3, [.int y67v5_1_0, .int y67v5_1_1, .int y67v5_1_2])), (q67v5_3, .inr (3, [.int y67v5_3_0, .int y67v5_3_1, .int y67v5_3_2]))]) [0, 1, 2, 3, 4, 5, 6, 7, 8, 9, 10, 11, 12, 13, 14, 15, 16, 17, 19] rfl
      replace hD := hD.sub (ws' := XP d z b fl μ67v5 ++ [(o, .inr (9, [.ref q67v5_1, .int (μ67v5.1 90), .int (μ67v5.1 91), .ref (b 0)])), (q67v5_1, .inr (3, [.int y67v5_1_0, .int y67v5_1_1, .int y67v5_1_2])), (q67v5_3, .inr (3, [.int y67v5_3_0, .int y67v5_3_1, .int y67v5_3_2]))]) [0, 1, 2, 3, 4, 5, 6, 7, 8, 9, 10, 11, 12, 13, 14, 15, 16, 17, 19] (by decide) rfl
      exact L81v5 x67v5_1 t67v5_0 q67v5_1 y67v5_1_0 y67v5_1_1 y67v5_1_2 q67v5_3 y67v5_3_0 y67v5_3_1 y67v5_3_2 μ67v5 _ _ _ hf hP hD hS (lv_sub hl [3, 4, 1, 0, 5] rfl)
  have L13v7 : ∀ (x13v7_1 : Int32) (x13v7_3 : Int32) (q13v7_1 : Nat) (y13v7_1_0 : Int32) (y13v7_1_1 : Int32) (y13v7_1_2 : Int32) (q13v7_2 : Nat) (y13v7_2_0 : Int32) (y13v7_2_1 : Int32) (y13v7_2_2 : Int32) (μ13v7 : XS) (H : Heap) (locs : List Loc) (ls : Array Slot), fX9_improve_L13v7 K x13v7_1 x13v7_3 y13v7_1_0 y13v7_1_1 y13v7_1_2 y13v7_2_0 y13v7_2_1 y13v7_2_2 μ13v7 = some (r, t', μ') → va_P D CL (XP d z b fl μ13v7 ++ [(o, .inr (9, [.ref q13v7_1, .int (μ13v7.1 90), .int (μ13v7.1 91), .ref (b 0)])), (q13v7_1, .inr (3, [.int y13v7_1_0, .int y13v7_1_1, .int y13v7_1_2])), (q13v7_2, .inr (3, [.int y13v7_2_0, .int y13v7_2_1, .int y13v7_2_2]))]) H → va_D A (XP d z b fl μ13v7 ++ [(o, .inr (9, [.ref q13v7_1, .int (μ13v7.1 90), .int (μ13v7.1 91), .ref (b 0)])), (q13v7_1, .inr (3, [.int y13v7_1_0, .int y13v7_1_1, .int y13v7_1_2])), (q13v7_2, .inr (3, [.int y13v7_2_0, .int y13v7_2_1, .int y13v7_2_2]))]) → va_S A s.heap H locs → lv_has ls 7 [(0, .ref o), (1, .int x13v7_1), (2, .ref q13v7_2), (3, .int x13v7_3), (4, .int (4 : Int32))] → W p l e (rmc 8 5 15 174) s m args below meth c H locs 4 12 Q (F0 m 13 ls []) := by
    intro x13v7_1 x13v7_3 q13v7_1 y13v7_1_0 y13v7_1_1 y13v7_1_2 q13v7_2 y13v7_2_0 y13v7_2_1 y13v7_2_2 μ13v7 H locs ls hf hP hD hS hl
    unfold fX9_improve_L13v7 at hf
    refine lv_iload hx hb dX9_improve_13 (lv_at hl 4 rfl) ?_
    refine lv_aload_n hx hb dX9_improve_15 rfl (lv_at hl 0 rfl) ?_
    refine g_get hx hb hts S.2.2.2.1 hK hP in_X9 16 rfl rfl 3 (by decide) q1279 (fun _ h9 => h9) (v := .ref (b 0)) rfl dX9_improve_16 ?_
    refine g_getN hx hb hts S.2.2.2.1 hK hP in_X0 0 rfl rfl 4 (by decide) q284 (fun _ h9 => h9) (v := .ref (b 3)) rfl dX9_improve_19 ?_
    refine g_len hx hb hK hP 3 6 rfl rfl (v := 5) rfl dX9_improve_22 ?_
    refine lv_icmp_ge (tgt := 87) hx hb dX9_improve_23 (by decide) (fun hc => absurd hc (by decide)) (fun hc => ?_)
    clear hc
    refine lv_aload_n hx hb dX9_improve_26 rfl (lv_at hl 0 rfl) ?_
    refine g_get hx hb hts S.2.2.2.1 hK hP in_X9 16 rfl rfl 3 (by decide) q1279 (fun _ h9 => h9) (v := .ref (b 0)) rfl dX9_improve_27 ?_
    refine g_getN hx hb hts S.2.2.2.1 hK hP in_X0 0 rfl rfl 4 (by decide) q284 (fun _ h9 => h9) (v := .ref (b 3)) rfl dX9_improve_30 ?_
    refine lv_iload hx hb dX9_improve_33 (lv_at hl 4 rfl) ?_
    refine g_aald hx hb hK hP 3 6 rfl rfl (ix_in (by decide)) dX9_improve_35 ?_
    refine lv_aload_n hx hb dX9_improve_36 rfl (lv_at hl 0 rfl) ?_
    refine g_get hx hb hts S.2.2.2.1 hK hP in_X9 16 rfl rfl 0 (by decide) q1273 (fun _ h9 => h9) (v := .ref q13v7_1) rfl dX9_improve_37 ?_
    refine lv_iload_n hx hb dX9_improve_40 rfl (lv_at hl 1 rfl) ?_
    obtain ⟨r_52, h_53, hf⟩ := b1_some hf
    refine run5_rS0 (wr := [(b 0, .inr (1, [.ref (b 1), .int (μ13v7.1 1), .int (μ13v7.1 2), .ref (b 2), .ref (b 3), .ref (b 4), va_rf fl, .ref (b 7), .ref (b 13), .ref (b 16), .int (μ13v7.1 10)])), (b 1, .inl (d 2, 500, .inl (μ13v7.2.2.1 1))), (b 2, .inl (d 5, 2, .inr (.inr (.inr (.inr (fun j => some (z.2.2 j))))))), (b 3, .inl (d 6, 5, .inr (.inr (.inr (.inr (fun j => some (z.2.2 (2 + j)))))))), (b 4, .inr (4, [.int (μ13v7.1 20), .long (μ13v7.2.1 21), .long (μ13v7.2.1 22), .long (μ13v7.2.1 23), .ref (b 5), .ref (b 6), .ref (b 0)])), (b 5, .inr (2, [.long (μ13v7.2.1 30), .long (μ13v7.2.1 31)])), (b 6, .inr (2, [.long (μ13v7.2.1 32), .long (μ13v7.2.1 33)])), (b 7, .inr (6, [.int (μ13v7.1 40), .int (μ13v7.1 41), .int (μ13v7.1 42), .int (μ13v7.1 43), .int (μ13v7.1 44), .int (μ13v7.1 45), .ref (b 8), .ref (b 9), .ref (b 10), .int (μ13v7.1 49), .ref (b 11), .ref (b 12), .int (μ13v7.1 52)])), (b 8, .inl (d 0, 16, .inl (μ13v7.2.2.1 46))), (b 9, .inl (d 1, 16, .inr (.inl (μ13v7.2.2.2.1 47)))), (b 10, .inl (d 1, 16, .inr (.inl (μ13v7.2.2.2.1 48)))), (b 11, .inl (d 0, 8, .inl (μ13v7.2.2.1 50))), (b 12, .inl (d 0, 8, .inl (μ13v7.2.2.1 51))), (b 13, .inr (8, [.int (μ13v7.1 60), .int (μ13v7.1 61), .int (μ13v7.1 62), .int (μ13v7.1 63), .ref (b 14), .ref (b 15), .int (μ13v7.1 66), .ref (b 17)])), (b 14, .inl (d 0, 100, .inl (μ13v7.2.2.1 64))), (b 15, .inl (d 3, 100, .inl (μ13v7.2.2.1 65))), (o, .inr (9, [.ref q13v7_1, .int (μ13v7.1 90), .int (μ13v7.1 91), .ref (b 0)])), (q13v7_2, .inr (3, [.int y13v7_2_0, .int y13v7_2_1, .int y13v7_2_2]))]) (w' := fun u => XP d z b fl μ13v7 ++ [(o, .inr (9, [.ref q13v7_1, .int (μ13v7.1 90), .int (μ13v7.1 91), .ref (b 0)])), (q13v7_1, .inr (3, [.int y13v7_1_0, .int y13v7_1_1, .int y13v7_1_2])), (q13v7_2, .inr (3, [.int y13v7_2_0, .int y13v7_2_1, .int y13v7_2_2])), (u, .inr (3, [.int r_52.1, .int r_52.2.1, .int r_52.2.2]))]) (lam_run (As := [.ref q13v7_1, .int x13v7_1]) (rest := []) (j := 6) S (by decide) (hZ.2.2.2.2.2.2.1 6 (by decide)) hS (tX0_lambda_new_4 l D d z K q13v7_1 (y13v7_1_0, y13v7_1_1, y13v7_1_2) x13v7_1 r_52 h_53 _) q1264 q206 q94 q207 rfl rfl ⟨(Nat.le_of_ble_eq_true rfl), (Nat.le_of_ble_eq_true rfl)⟩ ⟨Pw.blind, fun U hU hW => Pw.cut (tl := []) hK (by rw [List.append_nil]; exact hP) (by rw [List.append_nil]; exact hD) hZ hS hA [17] rfl rfl hU hW⟩ rfl (by rw [if_neg (by decide)]; exact ⟨_, _, rfl⟩) hl.1 rfl (lv_room (Nat.le_of_ble_eq_true rfl)) dX9_improve_41 ⟨(Nat.le_of_ble_eq_true rfl), (Nat.le_of_ble_eq_true rfl)⟩ (lam_hvR (by decide))) hP hD hS hA [17] [0, 1, 2, 3, 4, 5, 6, 7, 8, 9, 10, 11, 12, 13, 14, 15, 16, 18] [0, 1, 2, 3, 4, 5, 6, 7, 8, 9, 10, 11, 12, 13, 14, 15, 16, 18, 17, 19] rfl rfl rfl rfl (by decide) rfl (fun _ => rfl) ?_
    clear hP hD hS
    intro q_54 _ H locs hP hD hS
    clear h_53
    refine lv_astore (lv' := [(5, .ref q_54), (0, .ref o), (1, .int x13v7_1), (2, .ref q13v7_2), (3, .int x13v7_3), (4, .int (4 : Int32))]) hx hb dX9_improve_46 hl (by decide) rfl (fun ls hl => ?_)
    refine lv_aload hx hb dX9_improve_48 (lv_at hl 0 rfl) ?_
    obtain ⟨r_56, h_55, hf⟩ := b1_some hf
    refine run_i0 (wr := [(b 0, .inr (1, [.ref (b 1), .int (μ13v7.1 1), .int (μ13v7.1 2), .ref (b 2), .ref (b 3), .ref (b 4), va_rf fl, .ref (b 7), .ref (b 13), .ref (b 16), .int (μ13v7.1 10)])), (b 1, .inl (d 2, 500, .inl (μ13v7.2.2.1 1))), (b 2, .inl (d 5, 2, .inr (.inr (.inr (.inr (fun j => some (z.2.2 j))))))), (b 3, .inl (d 6, 5, .inr (.inr (.inr (.inr (fun j => some (z.2.2 (2 + j)))))))), (b 4, .inr (4, [.int (μ13v7.1 20), .long (μ13v7.2.1 21), .long (μ13v7.2.1 22), .long (μ13v7.2.1 23), .ref (b 5), .ref (b 6), .ref (b 0)])), (b 5, .inr (2, [.long (μ13v7.2.1 30), .long (μ13v7.2.1 31)])), (b 6, .inr (2, [.long (μ13v7.2.1 32), .long (μ13v7.2.1 33)])), (b 7, .inr (6, [.int (μ13v7.1 40), .int (μ13v7.1 41), .int (μ13v7.1 42), .int (μ13v7.1 43), .int (μ13v7.1 44), .int (μ13v7.1 45), .ref (b 8), .ref (b 9), .ref (b 10), .int (μ13v7.1 49), .ref (b 11), .ref (b 12), .int (μ13v7.1 52)])), (b 8, .inl (d 0, 16, .inl (μ13v7.2.2.1 46))), (b 9, .inl (d 1, 16, .inr (.inl (μ13v7.2.2.2.1 47)))), (b 10, .inl (d 1, 16, .inr (.inl (μ13v7.2.2.2.1 48)))), (b 11, .inl (d 0, 8, .inl (μ13v7.2.2.1 50))), (b 12, .inl (d 0, 8, .inl (μ13v7.2.2.1 51))), (b 13, .inr (8, [.int (μ13v7.1 60), .int (μ13v7.1 61), .int (μ13v7.1 62), .int (μ13v7.1 63), .ref (b 14), .ref (b 15), .int (μ13v7.1 66), .ref (b 17)])), (b 14, .inl (d 0, 100, .inl (μ13v7.2.2.1 64))), (b 15, .inl (d 3, 100, .inl (μ13v7.2.2.1 65))), (o, .inr (9, [.ref q13v7_1, .int (μ13v7.1 90), .int (μ13v7.1 91), .ref (b 0)])), (q13v7_1, .inr (3, [.int y13v7_1_0, .int y13v7_1_1, .int y13v7_1_2])), (q13v7_2, .inr (3, [.int y13v7_2_0, .int y13v7_2_1, .int y13v7_2_2]))]) (w' := XP d z b fl μ13v7 ++ [(o, .inr (9, [.ref q13v7_1, .int (μ13v7.1 90), .int (μ13v7.1 91), .ref (b 0)])), (q13v7_1, .inr (3, [.int y13v7_1_0, .int y13v7_1_1, .int y13v7_1_2])), (q13v7_2, .inr (3, [.int y13v7_2_0, .int y13v7_2_1, .int y13v7_2_2])), (q_54, .inr (3, [.int r_52.1, .int r_52.2.1, .int r_52.2.2]))]) (va_runV (As := []) (rest := []) S (tX2_isPossibleq l D d z q_54 K (r_52.1, r_52.2.1, r_52.2.2) r_56 h_55 _) (cwV 0 hts (lw_V q1267 q1268 q1269 q97 q1270) rfl rfl rfl (by decide +kernel) ⟨(Nat.le_of_ble_eq_true rfl), (Nat.le_of_ble_eq_true rfl)⟩) ⟨Pw.blind, (va_recv hK.1 hP (ci := 3) (q0 := 19) rfl rfl), fun U hU hW => Pw.cut (tl := []) hK (by rw [List.append_nil]; exact hP) (by rw [List.append_nil]; exact hD) hZ hS hA [19] rfl rfl hU hW⟩ rfl rfl hl.1 rfl (lv_room (Nat.le_of_ble_eq_true rfl)) dX9_improve_50 ⟨(Nat.le_of_ble_eq_true rfl), (Nat.le_of_ble_eq_true rfl)⟩) hP hD hS hA [19] [0, 1, 2, 3, 4, 5, 6, 7, 8, 9, 10, 11, 12, 13, 14, 15, 16, 17, 18] [0, 1, 2, 3, 4, 5, 6, 7, 8, 9, 10, 11, 12, 13, 14, 15, 16, 17, 18, 19] rfl rfl rfl rfl (by decide) rfl rfl ?_
    clear hP hD hS
    intro H locs hP hD hS
    clear h_55
    refine lv_if_eq (tgt := 65) hx hb dX9_improve_53 (by decide) (fun c_57 => ?_) (fun c_57 => ?_)
    · replace hf := it_f hf (bi_e0 c_57)
      clear c_57
      refine lv_ldc hx hb S.2.2.2.1 (hts _ q1272) dX9_improve_65 ?_
      exact L67v5 (99999 : Int32) x13v7_1 x13v7_3 q13v7_1 y13v7_1_0 y13v7_1_1 y13v7_1_2 q13v7_2 y13v7_2_0 y13v7_2_1 y13v7_2_2 q_54 r_52.1 r_52.2.1 r_52.2.2 μ13v7 _ _ _ hf hP hD hS (lv_sub hl [1, 2, 3, 4, 5, 0] rfl)
    · replace hf := it_t hf (bi_n0 c_57)
      clear c_57
      refine lv_aload_n hx hb dX9_improve_56 rfl (lv_at hl 1 rfl) ?_
      refine lv_aload hx hb dX9_improve_57 (lv_at hl 0 rfl) ?_
      obtain ⟨r_61, ξ_60, h_59, hf⟩ := b2_some hf
      refine run_i0 (wr := [(q13v7_1, .inr (3, [.int y13v7_1_0, .int y13v7_1_1, .int y13v7_1_2])), (q13v7_2, .inr (3, [.int y13v7_2_0, .int y13v7_2_1, .int y13v7_2_2]))]) (w' := XP d z b fl ξ_60 ++ [(o, .inr (9, [.ref q13v7_1, .int (ξ_60.1 90), .int (ξ_60.1 91), .ref (b 0)])), (q13v7_1, .inr (3, [.int y13v7_1_0, .int y13v7_1_1, .int y13v7_1_2])), (q13v7_2, .inr (3, [.int y13v7_2_0, .int y13v7_2_1, .int y13v7_2_2])), (q_54, .inr (3, [.int r_52.1, .int r_52.2.1, .int r_52.2.2]))]) (va_runV (As := [.ref q_54]) (rest := []) S (tX9_evaluate l D d z b fl K o q13v7_1 q_54 (r_52.1, r_52.2.1, r_52.2.2) μ13v7 r_61 ξ_60 h_59 _) (cwV 1 hts (lw_V q1253 q1255 qs36 q121 q1256) rfl rfl rfl (by decide +kernel) ⟨(Nat.le_of_ble_eq_true rfl), (Nat.le_of_ble_eq_true rfl)⟩) ⟨Pw.blind, (va_recv hK.1 hP (ci := 9) (q0 := 16) rfl rfl), fun U hU hW => Pw.cut (tl := []) hK (by rw [List.append_nil]; exact hP) (by rw [List.append_nil]; exact hD) hZ hS hA [0, 1, 2, 3, 4, 5, 6, 7, 8, 9, 10, 11, 12, 13, 14, 15, 16, 19] rfl rfl hU hW⟩ rfl rfl hl.1 rfl (lv_room (Nat.le_of_ble_eq_true rfl)) dX9_improve_59 ⟨(Nat.le_of_ble_eq_true rfl), (Nat.le_of_ble_eq_true rfl)⟩) hP hD hS hA [0, 1, 2, 3, 4, 5, 6, 7, 8, 9, 10, 11, 12, 13, 14, 15, 16, 19] [17, 18] [2, 3, 4, 5, 6, 7, 8, 9, 10, 11, 12, 13, 14, 15, 16, 17, 18, 0, 1, 19] rfl rfl rfl rfl (by decide) rfl rfl ?_
      clear hP hD hS
      intro H locs hP hD hS
      clear h_59
      refine lv_goto (tgt := 67) hx hb dX9_improve_62 (by decide) ?_
      exact L67v5 r_61 x13v7_1 x13v7_3 q13v7_1 y13v7_1_0 y13v7_1_1 y13v7_1_2 q13v7_2 y13v7_2_0 y13v7_2_1 y13v7_2_2 q_54 r_52.1 r_52.2.1 r_52.2.2 ξ_60 _ _ _ hf hP hD hS (lv_sub hl [1, 2, 3, 4, 5, 0] rfl)
  have L81v6 : ∀ (x81v6_1 : Int32) (x81v6_3 : Int32) (q81v6_1 : Nat) (y81v6_1_0 : Int32) (y81v6_1_1 : Int32) (y81v6_1_2 : Int32) (q81v6_2 : Nat) (y81v6_2_0 : Int32) (y81v6_2_1 : Int32) (y81v6_2_2 : Int32) (μ81v6 : XS) (H : Heap) (locs : List Loc) (ls : Array Slot), fX9_improve_L81v6 K x81v6_1 x81v6_3 y81v6_1_0 y81v6_1_1 y81v6_1_2 y81v6_2_0 y81v6_2_1 y81v6_2_2 μ81v6 = some (r, t', μ') → va_P D CL (XP d z b fl μ81v6 ++ [(o, .inr (9, [.ref q81v6_1, .int (μ81v6.1 90), .int (μ81v6.1 91), .ref (b 0)])), (q81v6_1, .inr (3, [.int y81v6_1_0, .int y81v6_1_1, .int y81v6_1_2])), (q81v6_2, .inr (3, [.int y81v6_2_0, .int y81v6_2_1, .int y81v6_2_2]))]) H → va_D A (XP d z b fl μ81v6 ++ [(o, .inr (9, [.ref q81v6_1, .int (μ81v6.1 90), .int (μ81v6.1 91), .ref (b 0)])), (q81v6_1, .inr (3, [.int y81v6_1_0, .int y81v6_1_1, .int y81v6_1_2])), (q81v6_2, .inr (3, [.int y81v6_2_0, .int y81v6_2_1, .int y81v6_2_2]))]) → va_S A s.heap H locs → lv_has ls 7 [(0, .ref o), (1, .int x81v6_1), (2, .ref q81v6_2), (3, .int x81v6_3), (4, .int (3 : Int32))] → W p l e (rmc 8 5 15 174) s m args below meth c H locs 4 12 Q (F0 m 81 ls []) := by
    intro x81v6_1 x81v6_3 q81v6_1 y81v6_1_0 y81v6_1_1 y81v6_1_2 q81v6_2 y81v6_2_0 y81v6_2_1 y81v6_2_2 μ81v6 H locs ls hf hP hD hS hl
    unfold fX9_improve_L81v6 at hf
    refine lv_iinc (v := (4 : Int32)) (lv' := [(4, .int (4 : Int32)), (0, .ref o), (1, .int x81v6_1), (2, .ref q81v6_2), (3, .int x81v6_3)]) hx hb dX9_improve_81 hl (k := 4) rfl rfl (by decide) rfl (fun ls hl => ?_)
    refine lv_goto (tgt := 13) hx hb dX9_improve_84 (by decide) ?_
    exact L13v7 x81v6_1 x81v6_3 q81v6_1 y81v6_1_0 y81v6_1_1 y81v6_1_2 q81v6_2 y81v6_2_0 y81v6_2_1 y81v6_2_2 μ81v6 _ _ _ hf hP hD hS (lv_sub hl [1, 2, 3, 4, 0] rfl)
  have L67v3 : ∀ (t67v3_0 : Int32) (x67v3_1 : Int32) (x67v3_3 : Int32) (q67v3_1 : Nat) (y67v3_1_0 : Int32) (y67v3_1_1 : Int32) (y67v3_1_2 : Int32) (q67v3_2 : Nat) (y67v3_2_0 : Int32) (y67v3_2_1 : Int32) (y67v3_2_2 : Int32) (μ67v3 : XS) (H : Heap) (locs : List Loc) (ls : Array Slot), fX9_improve_L67v3 K t67v3_0 x67v3_1 x67v3_3 y67v3_1_0 y67v3_1_1 y67v3_1_2 y67v3_2_0 y67v3_2_1 y67v3_2_2 μ67v3 = some (r, t', μ') → va_P D CL (XP d z b fl μ67v3 ++ [(o, .inr (9, [.ref q67v3_1, .int (μ67v3.1 90), .int (μ67v3.1 91), .ref (b 0)])), (q67v3_1, .inr (3, [.int y67v3_1_0, .int y67v3_1_1, .int y67v3_1_2])), (q67v3_2, .inr (3, [.int y67v3_2_0, .int y67v3_2_1, .int y67v3_2_2]))]) H → va_D A (XP d z b fl μ67v3 ++ [(o, .inr (9, [.ref q67v3_1, .int (μ67v3.1 90), .int (μ67v3.1 91), .ref (b 0)])), (q67v3_1, .inr (3, [.int y67v3_1_0, .int y67v3_1_1, .int y67v3_1_2])), (q67v3_2, .inr (3, [.int y67v3_2_0, .int y67v3_2_1, .int y67v3_2_2]))]) → va_S A s.heap H locs → lv_has ls 7 [(0, .ref o), (1, .int x67v3_1), (2, .ref q67v3_1), (3, .int x67v3_3), (4, .int (3 : Int32)), (5, .ref q67v3_2)] → W p l e (rmc 8 5 15 174) s m args below meth c H locs 4 12 Q (F0 m 67 ls [.int t67v3_0]) := by
    intro t67v3_0 x67v3_1 x67v3_3 q67v3_1 y67v3_1_0 y67v3_1_1 y67v3_1_2 q67v3_2 y67v3_2_0 y67v3_2_1 y67v3_2_2 μ67v3 H locs ls hf hP hD hS hl
    unfold fX9_improve_L67v3 at hf
    refine lv_istore (lv' := [(6, .int t67v3_0), (0, .ref o), (1, .int x67v3_1), (2, .ref q67v3_1), (3, .int x67v3_3), (4, .int (3 : Int32)), (5, .ref q67v3_2)]) hx hb dX9_improve_67 hl (by decide) rfl (fun ls hl => ?_)
    refine lv_iload hx hb dX9_improve_69 (lv_at hl 0 rfl) ?_
    refine lv_iload_n hx hb dX9_improve_71 rfl (lv_at hl 4 rfl) ?_
    refine lv_icmp_ge (tgt := 81) hx hb dX9_improve_72 (by decide) (fun c_33 => ?_) (fun c_33 => ?_)
    · replace hf := it_t hf c_33
      clear c_33
      replace hP := hP.sub (ws' := XP d z b fl μ67v3 ++ [(o, .inr (9, [.ref q67v3_1, .int (μ67v3.1 90), .int (μ67v3.1 91), .ref (b 0)])), (q67v3_1, .inr (3, [.int y67v3_1_0, .int y67v3_1_1, .int y67v3_1_2]))]) [0, 1, 2, 3, 4, 5, 6, 7, 8, 9, 10, 11, 12, 13, 14, 15, 16, 17] rfl
      replace hD := hD.sub (ws' := XP d z b fl μ67v3 ++ [(o, .inr (9, [.ref q67v3_1, .int (μ67v3.1 90), .int (μ67v3.1 91), .ref (b 0)])), (q67v3_1, .inr (3, [.int y67v3_1_0, .int y67v3_1_1, .int y67v3_1_2]))]) [0, 1, 2, 3, 4, 5, 6, 7, 8, 9, 10, 11, 12, 13, 14, 15, 16, 17] (by decide) rfl
      exact L81v3 x67v3_1 x67v3_3 q67v3_1 y67v3_1_0 y67v3_1_1 y67v3_1_2 μ67v3 _ _ _ hf hP hD hS (lv_sub hl [1, 2, 3, 4, 5] rfl)
    · replace hf := it_f hf c_33
      clear c_33
      refine lv_aload hx hb dX9_improve_75 (lv_at hl 6 rfl) ?_
      refine lv_astore_n (lv' := [(2, .ref q67v3_2), (6, .int t67v3_0), (0, .ref o), (1, .int x67v3_1), (3, .int x67v3_3), (4, .int (3 : Int32)), (5, .ref q67v3_2)]) hx hb dX9_improve_77 rfl hl (by decide) rfl (fun ls hl => ?_)
      refine lv_iload hx hb dX9_improve_78 (lv_at hl 1 rfl) ?_
      refine lv_istore_n (lv' := [(3, .int t67v3_0), (2, .ref q67v3_2), (6, .int t67v3_0), (0, .ref o), (1, .int x67v3_1), (4, .int (3 : Int32)), (5, .ref q67v3_2)]) hx hb dX9_improve_80 rfl hl (by decide) rfl (fun ls hl => ?_)
      exact L81v6 x67v3_1 t67v3_0 q67v3_1 y67v3_1_0 y67v3_1_1 y67v3_1_2 q67v3_2 y67v3_2_0 y67v3_2_1 y67v3_2_2 μ67v3 _ _ _ hf hP hD hS (lv_sub hl [3, 4, 1, 0, 5] rfl)
  have L13v3 : ∀ (x13v3_1 : Int32) (x13v3_3 : Int32) (q13v3_1 : Nat) (y13v3_1_0 : Int32) (y13v3_1_1 : Int32) (y13v3_1_2 : Int32) (μ13v3 : XS) (H : Heap) (locs : List Loc) (ls : Array Slot), fX9_improve_L13v3 K x13v3_1 x13v3_3 y13v3_1_0 y13v3_1_1 y13v3_1_2 μ13v3 = some (r, t', μ') → va_P D CL (XP d z b fl μ13v3 ++ [(o, .inr (9, [.ref q13v3_1, .int (μ13v3.1 90), .int (μ13v3.1 91), .ref (b 0)])), (q13v3_1, .inr (3, [.int y13v3_1_0, .int y13v3_1_1, .int y13v3_1_2]))]) H → va_D A (XP d z b fl μ13v3 ++ [(o, .inr (9, [.ref q13v3_1, .int (μ13v3.1 90), .int (μ13v3.1 91), .ref (b 0)])), (q13v3_1, .inr (3, [.int y13v3_1_0, .int y13v3_1_1, .int y13v3_1_2]))]) → va_S A s.heap H locs → lv_has ls 7 [(0, .ref o), (1, .int x13v3_1), (2, .ref q13v3_1), (3, .int x13v3_3), (4, .int (3 : Int32))] → W p l e (rmc 8 5 15 174) s m args below meth c H locs 3 9 Q (F0 m 13 ls []) := by
    intro x13v3_1 x13v3_3 q13v3_1 y13v3_1_0 y13v3_1_1 y13v3_1_2 μ13v3 H locs ls hf hP hD hS hl
    unfold fX9_improve_L13v3 at hf
    refine lv_iload hx hb dX9_improve_13 (lv_at hl 4 rfl) ?_
    refine lv_aload_n hx hb dX9_improve_15 rfl (lv_at hl 0 rfl) ?_
    refine g_get hx hb hts S.2.2.2.1 hK hP in_X9 16 rfl rfl 3 (by decide) q1279 (fun _ h9 => h9) (v := .ref (b 0)) rfl dX9_improve_16 ?_
    refine g_getN hx hb hts S.2.2.2.1 hK hP in_X0 0 rfl rfl 4 (by decide) q284 (fun _ h9 => h9) (v := .ref (b 3)) rfl dX9_improve_19 ?_
    refine g_len hx hb hK hP 3 6 rfl rfl (v := 5) rfl dX9_improve_22 ?_
    refine lv_icmp_ge (tgt := 87) hx hb dX9_improve_23 (by decide) (fun hc => absurd hc (by decide)) (fun hc => ?_)
    clear hc
    refine lv_aload_n hx hb dX9_improve_26 rfl (lv_at hl 0 rfl) ?_
    refine g_get hx hb hts S.2.2.2.1 hK hP in_X9 16 rfl rfl 3 (by decide) q1279 (fun _ h9 => h9) (v := .ref (b 0)) rfl dX9_improve_27 ?_
    refine g_getN hx hb hts S.2.2.2.1 hK hP in_X0 0 rfl rfl 4 (by decide) q284 (fun _ h9 => h9) (v := .ref (b 3)) rfl dX9_improve_30 ?_
    refine lv_iload hx hb dX9_improve_33 (lv_at hl 4 rfl) ?_
    refine g_aald hx hb hK hP 3 6 rfl rfl (ix_in (by decide)) dX9_improve_35 ?_
    refine lv_aload_n hx hb dX9_improve_36 rfl (lv_at hl 0 rfl) ?_
    refine g_get hx hb hts S.2.2.2.1 hK hP in_X9 16 rfl rfl 0 (by decide) q1273 (fun _ h9 => h9) (v := .ref q13v3_1) rfl dX9_improve_37 ?_
    refine lv_iload_n hx hb dX9_improve_40 rfl (lv_at hl 1 rfl) ?_
    obtain ⟨r_27, h_28, hf⟩ := b1_some hf
    refine run5_rS0 (wr := [(b 0, .inr (1, [.ref (b 1), .int (μ13v3.1 1), .int (μ13v3.1 2), .ref (b 2), .ref (b 3), .ref (b 4), va_rf fl, .ref (b 7), .ref (b 13), .ref (b 16), .int (μ13v3.1 10)])), (b 1, .inl (d 2, 500, .inl (μ13v3.2.2.1 1))), (b 2, .inl (d 5, 2, .inr (.inr (.inr (.inr (fun j => some (z.2.2 j))))))), (b 3, .inl (d 6, 5, .inr (.inr (.inr (.inr (fun j => some (z.2.2 (2 + j)))))))), (b 4, .inr (4, [.int (μ13v3.1 20), .long (μ13v3.2.1 21), .long (μ13v3.2.1 22), .long (μ13v3.2.1 23), .ref (b 5), .ref (b 6), .ref (b 0)])), (b 5, .inr (2, [.long (μ13v3.2.1 30), .long (μ13v3.2.1 31)])), (b 6, .inr (2, [.long (μ13v3.2.1 32), .long (μ13v3.2.1 33)])), (b 7, .inr (6, [.int (μ13v3.1 40), .int (μ13v3.1 41), .int (μ13v3.1 42), .int (μ13v3.1 43), .int (μ13v3.1 44), .int (μ13v3.1 45), .ref (b 8), .ref (b 9), .ref (b 10), .int (μ13v3.1 49), .ref (b 11), .ref (b 12), .int (μ13v3.1 52)])), (b 8, .inl (d 0, 16, .inl (μ13v3.2.2.1 46))), (b 9, .inl (d 1, 16, .inr (.inl (μ13v3.2.2.2.1 47)))), (b 10, .inl (d 1, 16, .inr (.inl (μ13v3.2.2.2.1 48)))), (b 11, .inl (d 0, 8, .inl (μ13v3.2.2.1 50))), (b 12, .inl (d 0, 8, .inl (μ13v3.2.2.1 51))), (b 13, .inr (8, [.int (μ13v3.1 60), .int (μ13v3.1 61), .int (μ13v3.1 62), .int (μ13v3.1 63), .ref (b 14), .ref (b 15), .int (μ13v3.1 66), .ref (b 17)])), (b 14, .inl (d 0, 100, .inl (μ13v3.2.2.1 64))), (b 15, .inl (d 3, 100, .inl (μ13v3.2.2.1 65))), (o, .inr (9, [.ref q13v3_1, .int (μ13v3.1 90), .int (μ13v3.1 91), .ref (b 0)]))]) (w' := fun u => XP d z b fl μ13v3 ++ [(o, .inr (9, [.ref q13v3_1, .int (μ13v3.1 90), .int (μ13v3.1 91), .ref (b 0)])), (q13v3_1, .inr (3, [.int y13v3_1_0, .int y13v3_1_1, .int y13v3_1_2])), (u, .inr (3, [.int r_27.1, .int r_27.2.1, .int r_27.2.2]))]) (lam_run (As := [.ref q13v3_1, .int x13v3_1]) (rest := []) (j := 5) S (by decide) (hZ.2.2.2.2.2.2.1 5 (by decide)) hS (tX0_lambda_new_3 l D d z K q13v3_1 (y13v3_1_0, y13v3_1_1, y13v3_1_2) x13v3_1 r_27 h_28 _) q1264 q204 q94 q205 rfl rfl ⟨(Nat.le_of_ble_eq_true rfl), (Nat.le_of_ble_eq_true rfl)⟩ ⟨Pw.blind, fun U hU hW => Pw.cut (tl := []) hK (by rw [List.append_nil]; exact hP) (by rw [List.append_nil]; exact hD) hZ hS hA [17] rfl rfl hU hW⟩ rfl (by rw [if_neg (by decide)]; exact ⟨_, _, rfl⟩) hl.1 rfl (lv_room (Nat.le_of_ble_eq_true rfl)) dX9_improve_41 ⟨(Nat.le_of_ble_eq_true rfl), (Nat.le_of_ble_eq_true rfl)⟩ (lam_hvR (by decide))) hP hD hS hA [17] [0, 1, 2, 3, 4, 5, 6, 7, 8, 9, 10, 11, 12, 13, 14, 15, 16] [0, 1, 2, 3, 4, 5, 6, 7, 8, 9, 10, 11, 12, 13, 14, 15, 16, 17, 18] rfl rfl rfl rfl (by decide) rfl (fun _ => rfl) ?_
    clear hP hD hS
    intro q_29 _ H locs hP hD hS
    clear h_28
    refine lv_astore (lv' := [(5, .ref q_29), (0, .ref o), (1, .int x13v3_1), (2, .ref q13v3_1), (3, .int x13v3_3), (4, .int (3 : Int32))]) hx hb dX9_improve_46 hl (by decide) rfl (fun ls hl => ?_)
    refine lv_aload hx hb dX9_improve_48 (lv_at hl 0 rfl) ?_
    obtain ⟨r_31, h_30, hf⟩ := b1_some hf
    refine run_i0 (wr := [(b 0, .inr (1, [.ref (b 1), .int (μ13v3.1 1), .int (μ13v3.1 2), .ref (b 2), .ref (b 3), .ref (b 4), va_rf fl, .ref (b 7), .ref (b 13), .ref (b 16), .int (μ13v3.1 10)])), (b 1, .inl (d 2, 500, .inl (μ13v3.2.2.1 1))), (b 2, .inl (d 5, 2, .inr (.inr (.inr (.inr (fun j => some (z.2.2 j))))))), (b 3, .inl (d 6, 5, .inr (.inr (.inr (.inr (fun j => some (z.2.2 (2 + j)))))))), (b 4, .inr (4, [.int (μ13v3.1 20), .long (μ13v3.2.1 21), .long (μ13v3.2.1 22), .long (μ13v3.2.1 23), .ref (b 5), .ref (b 6), .ref (b 0)])), (b 5, .inr (2, [.long (μ13v3.2.1 30), .long (μ13v3.2.1 31)])), (b 6, .inr (2, [.long (μ13v3.2.1 32), .long (μ13v3.2.1 33)])), (b 7, .inr (6, [.int (μ13v3.1 40), .int (μ13v3.1 41), .int (μ13v3.1 42), .int (μ13v3.1 43), .int (μ13v3.1 44), .int (μ13v3.1 45), .ref (b 8), .ref (b 9), .ref (b 10), .int (μ13v3.1 49), .ref (b 11), .ref (b 12), .int (μ13v3.1 52)])), (b 8, .inl (d 0, 16, .inl (μ13v3.2.2.1 46))), (b 9, .inl (d 1, 16, .inr (.inl (μ13v3.2.2.2.1 47)))), (b 10, .inl (d 1, 16, .inr (.inl (μ13v3.2.2.2.1 48)))), (b 11, .inl (d 0, 8, .inl (μ13v3.2.2.1 50))), (b 12, .inl (d 0, 8, .inl (μ13v3.2.2.1 51))), (b 13, .inr (8, [.int (μ13v3.1 60), .int (μ13v3.1 61), .int (μ13v3.1 62), .int (μ13v3.1 63), .ref (b 14), .ref (b 15), .int (μ13v3.1 66), .ref (b 17)])), (b 14, .inl (d 0, 100, .inl (μ13v3.2.2.1 64))), (b 15, .inl (d 3, 100, .inl (μ13v3.2.2.1 65))), (o, .inr (9, [.ref q13v3_1, .int (μ13v3.1 90), .int (μ13v3.1 91), .ref (b 0)])), (q13v3_1, .inr (3, [.int y13v3_1_0, .int y13v3_1_1, .int y13v3_1_2]))]) (w' := XP d z b fl μ13v3 ++ [(o, .inr (9, [.ref q13v3_1, .int (μ13v3.1 90), .int (μ13v3.1 91), .ref (b 0)])), (q13v3_1, .inr (3, [.int y13v3_1_0, .int y13v3_1_1, .int y13v3_1_2])), (q_29, .inr (3, [.int r_27.1, .int r_27.2.1, .int r_27.2.2]))]) (va_runV (As := []) (rest := []) S (tX2_isPossibleq l D d z q_29 K (r_27.1, r_27.2.1, r_27.2.2) r_31 h_30 _) (cwV 0 hts (lw_V q1267 q1268 q1269 q97 q1270) rfl rfl rfl (by decide +kernel) ⟨(Nat.le_of_ble_eq_true rfl), (Nat.le_of_ble_eq_true rfl)⟩) ⟨Pw.blind, (va_recv hK.1 hP (ci := 3) (q0 := 18) rfl rfl), fun U hU hW => Pw.cut (tl := []) hK (by rw [List.append_nil]; exact hP) (by rw [List.append_nil]; exact hD) hZ hS hA [18] rfl rfl hU hW⟩ rfl rfl hl.1 rfl (lv_room (Nat.le_of_ble_eq_true rfl)) dX9_improve_50 ⟨(Nat.le_of_ble_eq_true rfl), (Nat.le_of_ble_eq_true rfl)⟩) hP hD hS hA [18] [0, 1, 2, 3, 4, 5, 6, 7, 8, 9, 10, 11, 12, 13, 14, 15, 16, 17] [0, 1, 2, 3, 4, 5, 6, 7, 8, 9, 10, 11, 12, 13, 14, 15, 16, 17, 18] rfl rfl rfl rfl (by decide) rfl rfl ?_
    clear hP hD hS
    intro H locs hP hD hS
    clear h_30
    refine lv_if_eq (tgt := 65) hx hb dX9_improve_53 (by decide) (fun c_32 => ?_) (fun c_32 => ?_)
    · replace hf := it_f hf (bi_e0 c_32)
      clear c_32
      refine lv_ldc hx hb S.2.2.2.1 (hts _ q1272) dX9_improve_65 ?_
      exact L67v3 (99999 : Int32) x13v3_1 x13v3_3 q13v3_1 y13v3_1_0 y13v3_1_1 y13v3_1_2 q_29 r_27.1 r_27.2.1 r_27.2.2 μ13v3 _ _ _ hf hP hD hS (lv_sub hl [1, 2, 3, 4, 5, 0] rfl)
    · replace hf := it_t hf (bi_n0 c_32)
      clear c_32
      refine lv_aload_n hx hb dX9_improve_56 rfl (lv_at hl 1 rfl) ?_
      refine lv_aload hx hb dX9_improve_57 (lv_at hl 0 rfl) ?_
      obtain ⟨r_64, ξ_63, h_62, hf⟩ := b2_some hf
      refine run_i0 (wr := [(q13v3_1, .inr (3, [.int y13v3_1_0, .int y13v3_1_1, .int y13v3_1_2]))]) (w' := XP d z b fl ξ_63 ++ [(o, .inr (9, [.ref q13v3_1, .int (ξ_63.1 90), .int (ξ_63.1 91), .ref (b 0)])), (q13v3_1, .inr (3, [.int y13v3_1_0, .int y13v3_1_1, .int y13v3_1_2])), (q_29, .inr (3, [.int r_27.1, .int r_27.2.1, .int r_27.2.2]))]) (va_runV (As := [.ref q_29]) (rest := []) S (tX9_evaluate l D d z b fl K o q13v3_1 q_29 (r_27.1, r_27.2.1, r_27.2.2) μ13v3 r_64 ξ_63 h_62 _) (cwV 1 hts (lw_V q1253 q1255 qs36 q121 q1256) rfl rfl rfl (by decide +kernel) ⟨(Nat.le_of_ble_eq_true rfl), (Nat.le_of_ble_eq_true rfl)⟩) ⟨Pw.blind, (va_recv hK.1 hP (ci := 9) (q0 := 16) rfl rfl), fun U hU hW => Pw.cut (tl := []) hK (by rw [List.append_nil]; exact hP) (by rw [List.append_nil]; exact hD) hZ hS hA [0, 1, 2, 3, 4, 5, 6, 7, 8, 9, 10, 11, 12, 13, 14, 15, 16, 18] rfl rfl hU hW⟩ rfl rfl hl.1 rfl (lv_room (Nat.le_of_ble_eq_true rfl)) dX9_improve_59 ⟨(Nat.le_of_ble_eq_true rfl), (Nat.le_of_ble_eq_true rfl)⟩) hP hD hS hA [0, 1, 2, 3, 4, 5, 6, 7, 8, 9, 10, 11, 12, 13, 14, 15, 16, 18] [17] [1, 2, 3, 4, 5, 6, 7, 8, 9, 10, 11, 12, 13, 14, 15, 16, 17, 0, 18] rfl rfl rfl rfl (by decide) rfl rfl ?_
      clear hP hD hS
      intro H locs hP hD hS
      clear h_62
      refine lv_goto (tgt := 67) hx hb dX9_improve_62 (by decide) ?_
      exact L67v3 r_64 x13v3_1 x13v3_3 q13v3_1 y13v3_1_0 y13v3_1_1 y13v3_1_2 q_29 r_27.1 r_27.2.1 r_27.2.2 ξ_63 _ _ _ hf hP hD hS (lv_sub hl [1, 2, 3, 4, 5, 0] rfl)
  have L81v2 : ∀ (x81v2_1 : Int32) (x81v2_3 : Int32) (q81v2_1 : Nat) (y81v2_1_0 : Int32) (y81v2_1_1 : Int32) (y81v2_1_2 : Int32) (μ81v2 : XS) (H : Heap) (locs : List Loc) (ls : Array Slot), fX9_improve_L81v2 K x81v2_1 x81v2_3 y81v2_1_0 y81v2_1_1 y81v2_1_2 μ81v2 = some (r, t', μ') → va_P D CL (XP d z b fl μ81v2 ++ [(o, .inr (9, [.ref q81v2_1, .int (μ81v2.1 90), .int (μ81v2.1 91), .ref (b 0)])), (q81v2_1, .inr (3, [.int y81v2_1_0, .int y81v2_1_1, .int y81v2_1_2]))]) H → va_D A (XP d z b fl μ81v2 ++ [(o, .inr (9, [.ref q81v2_1, .int (μ81v2.1 90), .int (μ81v2.1 91), .ref (b 0)])), (q81v2_1, .inr (3, [.int y81v2_1_0, .int y81v2_1_1, .int y81v2_1_2]))]) → va_S A s.heap H locs → lv_has ls 7 [(0, .ref o), (1, .int x81v2_1), (2, .ref q81v2_1), (3, .int x81v2_3), (4, .int (2 : Int32))] → W p l e (rmc 8 5 15 174) s m args below meth c H locs 3 9 Q (F0 m 81 ls []) := by
    intro x81v2_1 x81v2_3 q81v2_1 y81v2_1_0 y81v2_1_1 y81v2_1_2 μ81v2 H locs ls hf hP hD hS hl
    unfold fX9_improve_L81v2 at hf
    refine lv_iinc (v := (3 : Int32)) (lv' := [(4, .int (3 : Int32)), (0, .ref o), (1, .int x81v2_1), (2, .ref q81v2_1), (3, .int x81v2_3)]) hx hb dX9_improve_81 hl (k := 4) rfl rfl (by decide) rfl (fun ls hl => ?_)
    refine lv_goto (tgt := 13) hx hb dX9_improve_84 (by decide) ?_
    exact L13v3 x81v2_1 x81v2_3 q81v2_1 y81v2_1_0 y81v2_1_1 y81v2_1_2 μ81v2 _ _ _ hf hP hD hS (lv_sub hl [1, 2, 3, 4, 0] rfl)
  have L67v6 : ∀ (t67v6_0 : Int32) (x67v6_1 : Int32) (x67v6_3 : Int32) (q67v6_1 : Nat) (y67v6_1_0 : Int32) (y67v6_1_1 : Int32) (y67v6_1_2 : Int32) (q67v6_2 : Nat) (y67v6_2_0 : Int32) (y67v6_2_1 : Int32) (y67v6_2_2 : Int32) (q67v6_3 : Nat) (y67v6_3_0 : Int32) (y67v6_3_1 : Int32) (y67v6_3_2 : Int32) (μ67v6 : XS) (H : Heap) (locs : List Loc) (ls : Array Slot), fX9_improve_L67v6 K t67v6_0 x67v6_1 x67v6_3 y67v6_1_0 y67v6_1_1 y67v6_1_2 y67v6_2_0 y67v6_2_1 y67v6_2_2 y67v6_3_0 y67v6_3_1 y67v6_3_2 μ67v6 = some (r, t', μ') → va_P D CL (XP d z b fl μ67v6 ++ [(o, .inr (9, [.ref q67v6_1, .int (μ67v6.1 90), .int (μ67v6.1 91), .ref (b 0)])), (q67v6_1, .inr (3, [.int y67v6_1_0, .int y67v6_1_1, .int y67v6_1_2])), (q67v6_2, .inr (3, [.int y67v6_2_0, .int y67v6_2_1, .int y67v6_2_2])), (q67v6_3, .inr (3, [.int y67v6_3_0, .int y67v6_3_1, .int y67v6_3_2]))]) H → va_D A (XP d z b fl μ67v6 ++ [(o, .inr (9, [.ref q67v6_1, .int (μ67v6.1 90), .int (μ67v6.1 91), .ref (b 0)])), (q67v6_1, .inr (3, [.int y67v6_1_0, .int y67v6_1_1, .int y67v6_1_2])), (q67v6_2, .inr (3, [.int y67v6_2_0, .int y67v6_2_1, .int y67v6_2_2])), (q67v6_3, .inr (3, [.int y67v6_3_0, .int y67v6_3_1, .int y67v6_3_2]))]) → va_S A s.heap H locs → lv_has ls 7 [(0, .ref o), (1, .int x67v6_1), (2, .ref q67v6_2), (3, .int x67v6_3), (4, .int (3 : Int32)), (5, .ref q67v6_3)] → W p l e (rmc 8 5 15 174) s m args below meth c H locs 4 12 Q (F0 m 67 ls [.int t67v6_0]) := by
    intro t67v6_0 x67v6_1 x67v6_3 q67v6_1 y67v6_1_0 y67v6_1_1 y67v6_1_2 q67v6_2 y67v6_2_0 y67v6_2_1 y67v6_2_2 q67v6_3 y67v6_3_0 y67v6_3_1 y67v6_3_2 μ67v6 H locs ls hf hP hD hS hl
    unfold fX9_improve_L67v6 at hf
    refine lv_istore (lv' := [(6, .int t67v6_0), (0, .ref o), (1, .int x67v6_1), (2, .ref q67v6_2), (3, .int x67v6_3), (4, .int (3 : Int32)), (5, .ref q67v6_3)]) hx hb dX9_improve_67 hl (by decide) rfl (fun ls hl => ?_)
    refine lv_iload hx hb dX9_improve_69 (lv_at hl 0 rfl) ?_
    refine lv_iload_n hx hb dX9_improve_71 rfl (lv_at hl 4 rfl) ?_
    refine lv_icmp_ge (tgt := 81) hx hb dX9_improve_72 (by decide) (fun c_72 => ?_) (fun c_72 => ?_)
    · replace hf := it_t hf c_72
      clear c_72
      replace hP := hP.sub (ws' := XP d z b fl μ67v6 ++ [(o, .inr (9, [.ref q67v6_1, .int (μ67v6.1 90), .int (μ67v6.1 91), .ref (b 0)])), (q67v6_1, .inr (3, [.int y67v6_1_0, .int y67v6_1_1, .int y67v6_1_2])), (q67v6_2, .inr (3, [.int y67v6_2_0, .int y67v6_2_1, .int y67v6_2_2]))]) [0, 1, 2, 3, 4, 5, 6, 7, 8, 9, 10, 11, 12, 13, 14, 15, 16, 17, 18] rfl
      replace hD := hD.sub (ws' := XP d z b fl μ67v6 ++ [(o, .inr (9, [.ref q67v6_1, .int (μ67v6.1 90), .int (μ67v6.1 91), .ref (b 0)])), (q67v6_1, .inr (3, [.int y67v6_1_0, .int y67v6_1_1, .int y67v6_1_2])), (q67v6_2, .inr (3, [.int y67v6_2_0, .int y67v6_2_1, .int y67v6_2_2]))]) [0, 1, 2, 3, 4, 5, 6, 7, 8, 9, 10, 11, 12, 13, 14, 15, 16, 17, 18] (by decide) rfl
      exact L81v6 x67v6_1 x67v6_3 q67v6_1 y67v6_1_0 y67v6_1_1 y67v6_1_2 q67v6_2 y67v6_2_0 y67v6_2_1 y67v6_2_2 μ67v6 _ _ _ hf hP hD hS (lv_sub hl [1, 2, 3, 4, 5] rfl)
    · replace hf := it_f hf c_72
      clear c_72
      refine lv_aload hx hb dX9_improve_75 (lv_at hl 6 rfl) ?_
      refine lv_astore_n (lv' := [(2, .ref q67v6_3), (6, .int t67v6_0), (0, .ref o), (1, .int x67v6_1), (3, .int x67v6_3), (4, .int (3 : Int32)), (5, .ref q67v6_3)]) hx hb dX9_improve_77 rfl hl (by decide) rfl (fun ls hl => ?_)
      refine lv_iload hx hb dX9_improve_78 (lv_at hl 1 rfl) ?_
      refine lv_istore_n (lv' := [(3, .int t67v6_0), (2, .ref q67v6_3), (6, .int t67v6_0), (0, .ref o), (1, .int x67v6_1), (4, .int (3 : Int32)), (5, .ref q67v6_3)]) hx hb dX9_improve_80 rfl hl (by decide) rfl (fun ls hl => ?_)
      replace hP := hP.sub (ws' := XP d z b fl μ67v6 ++ [(o, .inr (9, [.ref q67v6_1, .int (μ67v6.1 90), .int (μ67v6.1 91), .ref (b 0)])), (q67v6_1, .inr (3, [.int y67v6_1_0, .int y67v6_1_1, .int y67v6_1_2])), (q67v6_3, .inr (3, [.int y67v6_3_0, .int y67v6_3_1, .int y67v6_3_2]))]) [0, 1, 2, 3, 4, 5, 6, 7, 8, 9, 10, 11, 12, 13, 14, 15, 16, 17, 19] rfl
      replace hD := hD.sub (ws' := XP d z b fl μ67v6 ++ [(o, .inr (9, [.ref q67v6_1, .int (μ67v6.1 90), .int (μ67v6.1 91), .ref (b 0)])), (q67v6_1, .inr (3, [.int y67v6_1_0, .int y67v6_1_1, .int y67v6_1_2])), (q67v6_3, .inr (3, [.int y67v6_3_0, .int y67v6_3_1, .int y67v6_3_2]))]) [0, 1, 2, 3, 4, 5, 6, 7, 8, 9, 10, 11, 12, 13, 14, 15, 16, 17, 19] (by decide) rfl
      exact L81v6 x67v6_1 t67v6_0 q67v6_1 y67v6_1_0 y67v6_1_1 y67v6_1_2 q67v6_3 y67v6_3_0 y67v6_3_1 y67v6_3_2 μ67v6 _ _ _ hf hP hD hS (lv_sub hl [3, 4, 1, 0, 5] rfl)
  have L13v8 : ∀ (x13v8_1 : Int32) (x13v8_3 : Int32) (q13v8_1 : Nat) (y13v8_1_0 : Int32) (y13v8_1_1 : Int32) (y13v8_1_2 : Int32) (q13v8_2 : Nat) (y13v8_2_0 : Int32) (y13v8_2_1 : Int32) (y13v8_2_2 : Int32) (μ13v8 : XS) (H : Heap) (locs : List Loc) (ls : Array Slot), fX9_improve_L13v8 K x13v8_1 x13v8_3 y13v8_1_0 y13v8_1_1 y13v8_1_2 y13v8_2_0 y13v8_2_1 y13v8_2_2 μ13v8 = some (r, t', μ') → va_P D CL (XP d z b fl μ13v8 ++ [(o, .inr (9, [.ref q13v8_1, .int (μ13v8.1 90), .int (μ13v8.1 91), .ref (b 0)])), (q13v8_1, .inr (3, [.int y13v8_1_0, .int y13v8_1_1, .int y13v8_1_2])), (q13v8_2, .inr (3, [.int y13v8_2_0, .int y13v8_2_1, .int y13v8_2_2]))]) H → va_D A (XP d z b fl μ13v8 ++ [(o, .inr (9, [.ref q13v8_1, .int (μ13v8.1 90), .int (μ13v8.1 91), .ref (b 0)])), (q13v8_1, .inr (3, [.int y13v8_1_0, .int y13v8_1_1, .int y13v8_1_2])), (q13v8_2, .inr (3, [.int y13v8_2_0, .int y13v8_2_1, .int y13v8_2_2]))]) → va_S A s.heap H locs → lv_has ls 7 [(0, .ref o), (1, .int x13v8_1), (2, .ref q13v8_2), (3, .int x13v8_3), (4, .int (3 : Int32))] → W p l e (rmc 8 5 15 174) s m args below meth c H locs 3 9 Q (F0 m 13 ls []) := by
    intro x13v8_1 x13v8_3 q13v8_1 y13v8_1_0 y13v8_1_1 y13v8_1_2 q13v8_2 y13v8_2_0 y13v8_2_1 y13v8_2_2 μ13v8 H locs ls hf hP hD hS hl
    unfold fX9_improve_L13v8 at hf
    refine lv_iload hx hb dX9_improve_13 (lv_at hl 4 rfl) ?_
    refine lv_aload_n hx hb dX9_improve_15 rfl (lv_at hl 0 rfl) ?_
    refine g_get hx hb hts S.2.2.2.1 hK hP in_X9 16 rfl rfl 3 (by decide) q1279 (fun _ h9 => h9) (v := .ref (b 0)) rfl dX9_improve_16 ?_
    refine g_getN hx hb hts S.2.2.2.1 hK hP in_X0 0 rfl rfl 4 (by decide) q284 (fun _ h9 => h9) (v := .ref (b 3)) rfl dX9_improve_19 ?_
    refine g_len hx hb hK hP 3 6 rfl rfl (v := 5) rfl dX9_improve_22 ?_
    refine lv_icmp_ge (tgt := 87) hx hb dX9_improve_23 (by decide) (fun hc => absurd hc (by decide)) (fun hc => ?_)
    clear hc
    refine lv_aload_n hx hb dX9_improve_26 rfl (lv_at hl 0 rfl) ?_
    refine g_get hx hb hts S.2.2.2.1 hK hP in_X9 16 rfl rfl 3 (by decide) q1279 (fun _ h9 => h9) (v := .ref (b 0)) rfl dX9_improve_27 ?_
    refine g_getN hx hb hts S.2.2.2.1 hK hP in_X0 0 rfl rfl 4 (by decide) q284 (fun _ h9 => h9) (v := .ref (b 3)) rfl dX9_improve_30 ?_
    refine lv_iload hx hb dX9_improve_33 (lv_at hl 4 rfl) ?_
    refine g_aald hx hb hK hP 3 6 rfl rfl (ix_in (by decide)) dX9_improve_35 ?_
    refine lv_aload_n hx hb dX9_improve_36 rfl (lv_at hl 0 rfl) ?_
    refine g_get hx hb hts S.2.2.2.1 hK hP in_X9 16 rfl rfl 0 (by decide) q1273 (fun _ h9 => h9) (v := .ref q13v8_1) rfl dX9_improve_37 ?_
    refine lv_iload_n hx hb dX9_improve_40 rfl (lv_at hl 1 rfl) ?_
    obtain ⟨r_66, h_67, hf⟩ := b1_some hf
    refine run5_rS0 (wr := [(b 0, .inr (1, [.ref (b 1), .int (μ13v8.1 1), .int (μ13v8.1 2), .ref (b 2), .ref (b 3), .ref (b 4), va_rf fl, .ref (b 7), .ref (b 13), .ref (b 16), .int (μ13v8.1 10)])), (b 1, .inl (d 2, 500, .inl (μ13v8.2.2.1 1))), (b 2, .inl (d 5, 2, .inr (.inr (.inr (.inr (fun j => some (z.2.2 j))))))), (b 3, .inl (d 6, 5, .inr (.inr (.inr (.inr (fun j => some (z.2.2 (2 + j)))))))), (b 4, .inr (4, [.int (μ13v8.1 20), .long (μ13v8.2.1 21), .long (μ13v8.2.1 22), .long (μ13v8.2.1 23), .ref (b 5), .ref (b 6), .ref (b 0)])), (b 5, .inr (2, [.long (μ13v8.2.1 30), .long (μ13v8.2.1 31)])), (b 6, .inr (2, [.long (μ13v8.2.1 32), .long (μ13v8.2.1 33)])), (b 7, .inr (6, [.int (μ13v8.1 40), .int (μ13v8.1 41), .int (μ13v8.1 42), .int (μ13v8.1 43), .int (μ13v8.1 44), .int (μ13v8.1 45), .ref (b 8), .ref (b 9), .ref (b 10), .int (μ13v8.1 49), .ref (b 11), .ref (b 12), .int (μ13v8.1 52)])), (b 8, .inl (d 0, 16, .inl (μ13v8.2.2.1 46))), (b 9, .inl (d 1, 16, .inr (.inl (μ13v8.2.2.2.1 47)))), (b 10, .inl (d 1, 16, .inr (.inl (μ13v8.2.2.2.1 48)))), (b 11, .inl (d 0, 8, .inl (μ13v8.2.2.1 50))), (b 12, .inl (d 0, 8, .inl (μ13v8.2.2.1 51))), (b 13, .inr (8, [.int (μ13v8.1 60), .int (μ13v8.1 61), .int (μ13v8.1 62), .int (μ13v8.1 63), .ref (b 14), .ref (b 15), .int (μ13v8.1 66), .ref (b 17)])), (b 14, .inl (d 0, 100, .inl (μ13v8.2.2.1 64))), (b 15, .inl (d 3, 100, .inl (μ13v8.2.2.1 65))), (o, .inr (9, [.ref q13v8_1, .int (μ13v8.1 90), .int (μ13v8.1 91), .ref (b 0)])), (q13v8_2, .inr (3, [.int y13v8_2_0, .int y13v8_2_1, .int y13v8_2_2]))]) (w' := fun u => XP d z b fl μ13v8 ++ [(o, .inr (9, [.ref q13v8_1, .int (μ13v8.1 90), .int (μ13v8.1 91), .ref (b 0)])), (q13v8_1, .inr (3, [.int y13v8_1_0, .int y13v8_1_1, .int y13v8_1_2])), (q13v8_2, .inr (3, [.int y13v8_2_0, .int y13v8_2_1, .int y13v8_2_2])), (u, .inr (3, [.int r_66.1, .int r_66.2.1, .int r_66.2.2]))]) (lam_run (As := [.ref q13v8_1, .int x13v8_1]) (rest := []) (j := 5) S (by decide) (hZ.2.2.2.2.2.2.1 5 (by decide)) hS (tX0_lambda_new_3 l D d z K q13v8_1 (y13v8_1_0, y13v8_1_1, y13v8_1_2) x13v8_1 r_66 h_67 _) q1264 q204 q94 q205 rfl rfl ⟨(Nat.le_of_ble_eq_true rfl), (Nat.le_of_ble_eq_true rfl)⟩ ⟨Pw.blind, fun U hU hW => Pw.cut (tl := []) hK (by rw [List.append_nil]; exact hP) (by rw [List.append_nil]; exact hD) hZ hS hA [17] rfl rfl hU hW⟩ rfl (by rw [if_neg (by decide)]; exact ⟨_, _, rfl⟩) hl.1 rfl (lv_room (Nat.le_of_ble_eq_true rfl)) dX9_improve_41 ⟨(Nat.le_of_ble_eq_true rfl), (Nat.le_of_ble_eq_true rfl)⟩ (lam_hvR (by decide))) hP hD hS hA [17] [0, 1, 2, 3, 4, 5, 6, 7, 8, 9, 10, 11, 12, 13, 14, 15, 16, 18] [0, 1, 2, 3, 4, 5, 6, 7, 8, 9, 10, 11, 12, 13, 14, 15, 16, 18, 17, 19] rfl rfl rfl rfl (by decide) rfl (fun _ => rfl) ?_
    clear hP hD hS
    intro q_68 _ H locs hP hD hS
    clear h_67
    refine lv_astore (lv' := [(5, .ref q_68), (0, .ref o), (1, .int x13v8_1), (2, .ref q13v8_2), (3, .int x13v8_3), (4, .int (3 : Int32))]) hx hb dX9_improve_46 hl (by decide) rfl (fun ls hl => ?_)
    refine lv_aload hx hb dX9_improve_48 (lv_at hl 0 rfl) ?_
    obtain ⟨r_70, h_69, hf⟩ := b1_some hf
    refine run_i0 (wr := [(b 0, .inr (1, [.ref (b 1), .int (μ13v8.1 1), .int (μ13v8.1 2), .ref (b 2), .ref (b 3), .ref (b 4), va_rf fl, .ref (b 7), .ref (b 13), .ref (b 16), .int (μ13v8.1 10)])), (b 1, .inl (d 2, 500, .inl (μ13v8.2.2.1 1))), (b 2, .inl (d 5, 2, .inr (.inr (.inr (.inr (fun j => some (z.2.2 j))))))), (b 3, .inl (d 6, 5, .inr (.inr (.inr (.inr (fun j => some (z.2.2 (2 + j)))))))), (b 4, .inr (4, [.int (μ13v8.1 20), .long (μ13v8.2.1 21), .long (μ13v8.2.1 22), .long (μ13v8.2.1 23), .ref (b 5), .ref (b 6), .ref (b 0)])), (b 5, .inr (2, [.long (μ13v8.2.1 30), .long (μ13v8.2.1 31)])), (b 6, .inr (2, [.long (μ13v8.2.1 32), .long (μ13v8.2.1 33)])), (b 7, .inr (6, [.int (μ13v8.1 40), .int (μ13v8.1 41), .int (μ13v8.1 42), .int (μ13v8.1 43), .int (μ13v8.1 44), .int (μ13v8.1 45), .ref (b 8), .ref (b 9), .ref (b 10), .int (μ13v8.1 49), .ref (b 11), .ref (b 12), .int (μ13v8.1 52)])), (b 8, .inl (d 0, 16, .inl (μ13v8.2.2.1 46))), (b 9, .inl (d 1, 16, .inr (.inl (μ13v8.2.2.2.1 47)))), (b 10, .inl (d 1, 16, .inr (.inl (μ13v8.2.2.2.1 48)))), (b 11, .inl (d 0, 8, .inl (μ13v8.2.2.1 50))), (b 12, .inl (d 0, 8, .inl (μ13v8.2.2.1 51))), (b 13, .inr (8, [.int (μ13v8.1 60), .int (μ13v8.1 61), .int (μ13v8.1 62), .int (μ13v8.1 63), .ref (b 14), .ref (b 15), .int (μ13v8.1 66), .ref (b 17)])), (b 14, .inl (d 0, 100, .inl (μ13v8.2.2.1 64))), (b 15, .inl (d 3, 100, .inl (μ13v8.2.2.1 65))), (o, .inr (9, [.ref q13v8_1, .int (μ13v8.1 90), .int (μ13v8.1 91), .ref (b 0)])), (q13v8_1, .inr (3, [.int y13v8_1_0, .int y13v8_1_1, .int y13v8_1_2])), (q13v8_2, .inr (3, [.int y13v8_2_0, .int y13v8_2_1, .int y13v8_2_2]))]) (w' := XP d z b fl μ13v8 ++ [(o, .inr (9, [.ref q13v8_1, .int (μ13v8.1 90), .int (μ13v8.1 91), .ref (b 0)])), (q13v8_1, .inr (3, [.int y13v8_1_0, .int y13v8_1_1, .int y13v8_1_2])), (q13v8_2, .inr (3, [.int y13v8_2_0, .int y13v8_2_1, .int y13v8_2_2])), (q_68, .inr (3, [.int r_66.1, .int r_66.2.1, .int r_66.2.2]))]) (va_runV (As := []) (rest := []) S (tX2_isPossibleq l D d z q_68 K (r_66.1, r_66.2.1, r_66.2.2) r_70 h_69 _) (cwV 0 hts (lw_V q1267 q1268 q1269 q97 q1270) rfl rfl rfl (by decide +kernel) ⟨(Nat.le_of_ble_eq_true rfl), (Nat.le_of_ble_eq_true rfl)⟩) ⟨Pw.blind, (va_recv hK.1 hP (ci := 3) (q0 := 19) rfl rfl), fun U hU hW => Pw.cut (tl := []) hK (by rw [List.append_nil]; exact hP) (by rw [List.append_nil]; exact hD) hZ hS hA [19] rfl rfl hU hW⟩ rfl rfl hl.1 rfl (lv_room (Nat.le_of_ble_eq_true rfl)) dX9_improve_50 ⟨(Nat.le_of_ble_eq_true rfl), (Nat.le_of_ble_eq_true rfl)⟩) hP hD hS hA [19] [0, 1, 2, 3, 4, 5, 6, 7, 8, 9, 10, 11, 12, 13, 14, 15, 16, 17, 18] [0, 1, 2, 3, 4, 5, 6, 7, 8, 9, 10, 11, 12, 13, 14, 15, 16, 17, 18, 19] rfl rfl rfl rfl (by decide) rfl rfl ?_
    clear hP hD hS
    intro H locs hP hD hS
    clear h_69
    refine lv_if_eq (tgt := 65) hx hb dX9_improve_53 (by decide) (fun c_71 => ?_) (fun c_71 => ?_)
    · replace hf := it_f hf (bi_e0 c_71)
      clear c_71
      refine lv_ldc hx hb S.2.2.2.1 (hts _ q1272) dX9_improve_65 ?_
      exact L67v6 (99999 : Int32) x13v8_1 x13v8_3 q13v8_1 y13v8_1_0 y13v8_1_1 y13v8_1_2 q13v8_2 y13v8_2_0 y13v8_2_1 y13v8_2_2 q_68 r_66.1 r_66.2.1 r_66.2.2 μ13v8 _ _ _ hf hP hD hS (lv_sub hl [1, 2, 3, 4, 5, 0] rfl)
    · replace hf := it_t hf (bi_n0 c_71)
      clear c_71
      refine lv_aload_n hx hb dX9_improve_56 rfl (lv_at hl 1 rfl) ?_
      refine lv_aload hx hb dX9_improve_57 (lv_at hl 0 rfl) ?_
      obtain ⟨r_75, ξ_74, h_73, hf⟩ := b2_some hf
      refine run_i0 (wr := [(q13v8_1, .inr (3, [.int y13v8_1_0, .int y13v8_1_1, .int y13v8_1_2])), (q13v8_2, .inr (3, [.int y13v8_2_0, .int y13v8_2_1, .int y13v8_2_2]))]) (w' := XP d z b fl ξ_74 ++ [(o, .inr (9, [.ref q13v8_1, .int (ξ_74.1 90), .int (ξ_74.1 91), .ref (b 0)])), (q13v8_1, .inr (3, [.int y13v8_1_0, .int y13v8_1_1, .int y13v8_1_2])), (q13v8_2, .inr (3, [.int y13v8_2_0, .int y13v8_2_1, .int y13v8_2_2])), (q_68, .inr (3, [.int r_66.1, .int r_66.2.1, .int r_66.2.2]))]) (va_runV (As := [.ref q_68]) (rest := []) S (tX9_evaluate l D d z b fl K o q13v8_1 q_68 (r_66.1, r_66.2.1, r_66.2.2) μ13v8 r_75 ξ_74 h_73 _) (cwV 1 hts (lw_V q1253 q1255 qs36 q121 q1256) rfl rfl rfl (by decide +kernel) ⟨(Nat.le_of_ble_eq_true rfl), (Nat.le_of_ble_eq_true rfl)⟩) ⟨Pw.blind, (va_recv hK.1 hP (ci := 9) (q0 := 16) rfl rfl), fun U hU hW => Pw.cut (tl := []) hK (by rw [List.append_nil]; exact hP) (by rw [List.append_nil]; exact hD) hZ hS hA [0, 1, 2, 3, 4, 5, 6, 7, 8, 9, 10, 11, 12, 13, 14, 15, 16, 19] rfl rfl hU hW⟩ rfl rfl hl.1 rfl (lv_room (Nat.le_of_ble_eq_true rfl)) dX9_improve_59 ⟨(Nat.le_of_ble_eq_true rfl), (Nat.le_of_ble_eq_true rfl)⟩) hP hD hS hA [0, 1, 2, 3, 4, 5, 6, 7, 8, 9, 10, 11, 12, 13, 14, 15, 16, 19] [17, 18] [2, 3, 4, 5, 6, 7, 8, 9, 10, 11, 12, 13, 14, 15, 16, 17, 18, 0, 1, 19] rfl rfl rfl rfl (by decide) rfl rfl ?_
      clear hP hD hS
      intro H locs hP hD hS
      clear h_73
      refine lv_goto (tgt := 67) hx hb dX9_improve_62 (by decide) ?_
      exact L67v6 r_75 x13v8_1 x13v8_3 q13v8_1 y13v8_1_0 y13v8_1_1 y13v8_1_2 q13v8_2 y13v8_2_0 y13v8_2_1 y13v8_2_2 q_68 r_66.1 r_66.2.1 r_66.2.2 ξ_74 _ _ _ hf hP hD hS (lv_sub hl [1, 2, 3, 4, 5, 0] rfl)
  have L81v7 : ∀ (x81v7_1 : Int32) (x81v7_3 : Int32) (q81v7_1 : Nat) (y81v7_1_0 : Int32) (y81v7_1_1 : Int32) (y81v7_1_2 : Int32) (q81v7_2 : Nat) (y81v7_2_0 : Int32) (y81v7_2_1 : Int32) (y81v7_2_2 : Int32) (μ81v7 : XS) (H : Heap) (locs : List Loc) (ls : Array Slot), fX9_improve_L81v7 K x81v7_1 x81v7_3 y81v7_1_0 y81v7_1_1 y81v7_1_2 y81v7_2_0 y81v7_2_1 y81v7_2_2 μ81v7 = some (r, t', μ') → va_P D CL (XP d z b fl μ81v7 ++ [(o, .inr (9, [.ref q81v7_1, .int (μ81v7.1 90), .int (μ81v7.1 91), .ref (b 0)])), (q81v7_1, .inr (3, [.int y81v7_1_0, .int y81v7_1_1, .int y81v7_1_2])), (q81v7_2, .inr (3, [.int y81v7_2_0, .int y81v7_2_1, .int y81v7_2_2]))]) H → va_D A (XP d z b fl μ81v7 ++ [(o, .inr (9, [.ref q81v7_1, .int (μ81v7.1 90), .int (μ81v7.1 91), .ref (b 0)])), (q81v7_1, .inr (3, [.int y81v7_1_0, .int y81v7_1_1, .int y81v7_1_2])), (q81v7_2, .inr (3, [.int y81v7_2_0, .int y81v7_2_1, .int y81v7_2_2]))]) → va_S A s.heap H locs → lv_has ls 7 [(0, .ref o), (1, .int x81v7_1), (2, .ref q81v7_2), (3, .int x81v7_3), (4, .int (2 : Int32))] → W p l e (rmc 8 5 15 174) s m args below meth c H locs 3 9 Q (F0 m 81 ls []) := by
    intro x81v7_1 x81v7_3 q81v7_1 y81v7_1_0 y81v7_1_1 y81v7_1_2 q81v7_2 y81v7_2_0 y81v7_2_1 y81v7_2_2 μ81v7 H locs ls hf hP hD hS hl
    unfold fX9_improve_L81v7 at hf
    refine lv_iinc (v := (3 : Int32)) (lv' := [(4, .int (3 : Int32)), (0, .ref o), (1, .int x81v7_1), (2, .ref q81v7_2), (3, .int x81v7_3)]) hx hb dX9_improve_81 hl (k := 4) rfl rfl (by decide) rfl (fun ls hl => ?_)
    refine lv_goto (tgt := 13) hx hb dX9_improve_84 (by decide) ?_
    exact L13v8 x81v7_1 x81v7_3 q81v7_1 y81v7_1_0 y81v7_1_1 y81v7_1_2 q81v7_2 y81v7_2_0 y81v7_2_1 y81v7_2_2 μ81v7 _ _ _ hf hP hD hS (lv_sub hl [1, 2, 3, 4, 0] rfl)
  have L67v2 : ∀ (t67v2_0 : Int32) (x67v2_1 : Int32) (x67v2_3 : Int32) (q67v2_1 : Nat) (y67v2_1_0 : Int32) (y67v2_1_1 : Int32) (y67v2_1_2 : Int32) (q67v2_2 : Nat) (y67v2_2_0 : Int32) (y67v2_2_1 : Int32) (y67v2_2_2 : Int32) (μ67v2 : XS) (H : Heap) (locs : List Loc) (ls : Array Slot), fX9_improve_L67v2 K t67v2_0 x67v2_1 x67v2_3 y67v2_1_0 y67v2_1_1 y67v2_1_2 y67v2_2_0 y67v2_2_1 y67v2_2_2 μ67v2 = some (r, t', μ') → va_P D CL (XP d z b fl μ67v2 ++ [(o, .inr (9, [.ref q67v2_1, .int (μ67v2.1 90), .int (μ67v2.1 91), .ref (b 0)])), (q67v2_1, .inr (3, [.int y67v2_1_0, .int y67v2_1_1, .int y67v2_1_2])), (q67v2_2, .inr (3, [.int y67v2_2_0, .int y67v2_2_1, .int y67v2_2_2]))]) H → va_D A (XP d z b fl μ67v2 ++ [(o, .inr (9, [.ref q67v2_1, .int (μ67v2.1 90), .int (μ67v2.1 91), .ref (b 0)])), (q67v2_1, .inr (3, [.int y67v2_1_0, .int y67v2_1_1, .int y67v2_1_2])), (q67v2_2, .inr (3, [.int y67v2_2_0, .int y67v2_2_1, .int y67v2_2_2]))]) → va_S A s.heap H locs → lv_has ls 7 [(0, .ref o), (1, .int x67v2_1), (2, .ref q67v2_1), (3, .int x67v2_3), (4, .int (2 : Int32)), (5, .ref q67v2_2)] → W p l e (rmc 8 5 15 174) s m args below meth c H locs 3 9 Q (F0 m 67 ls [.int t67v2_0]) := by
    intro t67v2_0 x67v2_1 x67v2_3 q67v2_1 y67v2_1_0 y67v2_1_1 y67v2_1_2 q67v2_2 y67v2_2_0 y67v2_2_1 y67v2_2_2 μ67v2 H locs ls hf hP hD hS hl
    unfold fX9_improve_L67v2 at hf
    refine lv_istore (lv' := [(6, .int t67v2_0), (0, .ref o), (1, .int x67v2_1), (2, .ref q67v2_1), (3, .int x67v2_3), (4, .int (2 : Int32)), (5, .ref q67v2_2)]) hx hb dX9_improve_67 hl (by decide) rfl (fun ls hl => ?_)
    refine lv_iload hx hb dX9_improve_69 (lv_at hl 0 rfl) ?_
    refine lv_iload_n hx hb dX9_improve_71 rfl (lv_at hl 4 rfl) ?_
    refine lv_icmp_ge (tgt := 81) hx hb dX9_improve_72 (by decide) (fun c_25 => ?_) (fun c_25 => ?_)
    · replace hf := it_t hf c_25
      clear c_25
      replace hP := hP.sub (ws' := XP d z b fl μ67v2 ++ [(o, .inr (9, [.ref q67v2_1, .int (μ67v2.1 90), .int (μ67v2.1 91), .ref (b 0)])), (q67v2_1, .inr (3, [.int y67v2_1_0, .int y67v2_1_1, .int y67v2_1_2]))]) [0, 1, 2, 3, 4, 5, 6, 7, 8, 9, 10, 11, 12, 13, 14, 15, 16, 17] rfl
      replace hD := hD.sub (ws' := XP d z b fl μ67v2 ++ [(o, .inr (9, [.ref q67v2_1, .int (μ67v2.1 90), .int (μ67v2.1 91), .ref (b 0)])), (q67v2_1, .inr (3, [.int y67v2_1_0, .int y67v2_1_1, .int y67v2_1_2]))]) [0, 1, 2, 3, 4, 5, 6, 7, 8, 9, 10, 11, 12, 13, 14, 15, 16, 17] (by decide) rfl
      exact L81v2 x67v2_1 x67v2_3 q67v2_1 y67v2_1_0 y67v2_1_1 y67v2_1_2 μ67v2 _ _ _ hf hP hD hS (lv_sub hl [1, 2, 3, 4, 5] rfl)
    · replace hf := it_f hf c_25
      clear c_25
      refine lv_aload hx hb dX9_improve_75 (lv_at hl 6 rfl) ?_
      refine lv_astore_n (lv' := [(2, .ref q67v2_2), (6, .int t67v2_0), (0, .ref o), (1, .int x67v2_1), (3, .int x67v2_3), (4, .int (2 : Int32)), (5, .ref q67v2_2)]) hx hb dX9_improve_77 rfl hl (by decide) rfl (fun ls hl => ?_)
      refine lv_iload hx hb dX9_improve_78 (lv_at hl 1 rfl) ?_
      refine lv_istore_n (lv' := [(3, .int t67v2_0), (2, .ref q67v2_2), (6, .int t67v2_0), (0, .ref o), (1, .int x67v2_1), (4, .int (2 : Int32)), (5, .ref q67v2_2)]) hx hb dX9_improve_80 rfl hl (by decide) rfl (fun ls hl => ?_)
      exact L81v7 x67v2_1 t67v2_0 q67v2_1 y67v2_1_0 y67v2_1_1 y67v2_1_2 q67v2_2 y67v2_2_0 y67v2_2_1 y67v2_2_2 μ67v2 _ _ _ hf hP hD hS (lv_sub hl [3, 4, 1, 0, 5] rfl)
  have L13v2 : ∀ (x13v2_1 : Int32) (x13v2_3 : Int32) (q13v2_1 : Nat) (y13v2_1_0 : Int32) (y13v2_1_1 : Int32) (y13v2_1_2 : Int32) (μ13v2 : XS) (H : Heap) (locs : List Loc) (ls : Array Slot), fX9_improve_L13v2 K x13v2_1 x13v2_3 y13v2_1_0 y13v2_1_1 y13v2_1_2 μ13v2 = some (r, t', μ') → va_P D CL (XP d z b fl μ13v2 ++ [(o, .inr (9, [.ref q13v2_1, .int (μ13v2.1 90), .int (μ13v2.1 91), .ref (b 0)])), (q13v2_1, .inr (3, [.int y13v2_1_0, .int y13v2_1_1, .int y13v2_1_2]))]) H → va_D A (XP d z b fl μ13v2 ++ [(o, .inr (9, [.ref q13v2_1, .int (μ13v2.1 90), .int (μ13v2.1 91), .ref (b 0)])), (q13v2_1, .inr (3, [.int y13v2_1_0, .int y13v2_1_1, .int y13v2_1_2]))]) → va_S A s.heap H locs → lv_has ls 7 [(0, .ref o), (1, .int x13v2_1), (2, .ref q13v2_1), (3, .int x13v2_3), (4, .int (2 : Int32))] → W p l e (rmc 8 5 15 174) s m args below meth c H locs 2 6 Q (F0 m 13 ls []) := by
    intro x13v2_1 x13v2_3 q13v2_1 y13v2_1_0 y13v2_1_1 y13v2_1_2 μ13v2 H locs ls hf hP hD hS hl
    unfold fX9_improve_L13v2 at hf
    refine lv_iload hx hb dX9_improve_13 (lv_at hl 4 rfl) ?_
    refine lv_aload_n hx hb dX9_improve_15 rfl (lv_at hl 0 rfl) ?_
    refine g_get hx hb hts S.2.2.2.1 hK hP in_X9 16 rfl rfl 3 (by decide) q1279 (fun _ h9 => h9) (v := .ref (b 0)) rfl dX9_improve_16 ?_
    refine g_getN hx hb hts S.2.2.2.1 hK hP in_X0 0 rfl rfl 4 (by decide) q284 (fun _ h9 => h9) (v := .ref (b 3)) rfl dX9_improve_19 ?_
    refine g_len hx hb hK hP 3 6 rfl rfl (v := 5) rfl dX9_improve_22 ?_
    refine lv_icmp_ge (tgt := 87) hx hb dX9_improve_23 (by decide) (fun hc => absurd hc (by decide)) (fun hc => ?_)
    clear hc
    refine lv_aload_n hx hb dX9_improve_26 rfl (lv_at hl 0 rfl) ?_
    refine g_get hx hb hts S.2.2.2.1 hK hP in_X9 16 rfl rfl 3 (by decide) q1279 (fun _ h9 => h9) (v := .ref (b 0)) rfl dX9_improve_27 ?_
    refine g_getN hx hb hts S.2.2.2.1 hK hP in_X0 0 rfl rfl 4 (by decide) q284 (fun _ h9 => h9) (v := .ref (b 3)) rfl dX9_improve_30 ?_
    refine lv_iload hx hb dX9_improve_33 (lv_at hl 4 rfl) ?_
    refine g_aald hx hb hK hP 3 6 rfl rfl (ix_in (by decide)) dX9_improve_35 ?_
    refine lv_aload_n hx hb dX9_improve_36 rfl (lv_at hl 0 rfl) ?_
    refine g_get hx hb hts S.2.2.2.1 hK hP in_X9 16 rfl rfl 0 (by decide) q1273 (fun _ h9 => h9) (v := .ref q13v2_1) rfl dX9_improve_37 ?_
    refine lv_iload_n hx hb dX9_improve_40 rfl (lv_at hl 1 rfl) ?_
    obtain ⟨r_19, h_20, hf⟩ := b1_some hf
    refine run5_rS0 (wr := [(b 0, .inr (1, [.ref (b 1), .int (μ13v2.1 1), .int (μ13v2.1 2), .ref (b 2), .ref (b 3), .ref (b 4), va_rf fl, .ref (b 7), .ref (b 13), .ref (b 16), .int (μ13v2.1 10)])), (b 1, .inl (d 2, 500, .inl (μ13v2.2.2.1 1))), (b 2, .inl (d 5, 2, .inr (.inr (.inr (.inr (fun j => some (z.2.2 j))))))), (b 3, .inl (d 6, 5, .inr (.inr (.inr (.inr (fun j => some (z.2.2 (2 + j)))))))), (b 4, .inr (4, [.int (μ13v2.1 20), .long (μ13v2.2.1 21), .long (μ13v2.2.1 22), .long (μ13v2.2.1 23), .ref (b 5), .ref (b 6), .ref (b 0)])), (b 5, .inr (2, [.long (μ13v2.2.1 30), .long (μ13v2.2.1 31)])), (b 6, .inr (2, [.long (μ13v2.2.1 32), .long (μ13v2.2.1 33)])), (b 7, .inr (6, [.int (μ13v2.1 40), .int (μ13v2.1 41), .int (μ13v2.1 42), .int (μ13v2.1 43), .int (μ13v2.1 44), .int (μ13v2.1 45), .ref (b 8), .ref (b 9), .ref (b 10), .int (μ13v2.1 49), .ref (b 11), .ref (b 12), .int (μ13v2.1 52)])), (b 8, .inl (d 0, 16, .inl (μ13v2.2.2.1 46))), (b 9, .inl (d 1, 16, .inr (.inl (μ13v2.2.2.2.1 47)))), (b 10, .inl (d 1, 16, .inr (.inl (μ13v2.2.2.2.1 48)))), (b 11, .inl (d 0, 8, .inl (μ13v2.2.2.1 50))), (b 12, .inl (d 0, 8, .inl (μ13v2.2.2.1 51))), (b 13, .inr (8, [.int (μ13v2.1 60), .int (μ13v2.1 61), .int (μ13v2.1 62), .int (μ13v2.1 63), .ref (b 14), .ref (b 15), .int (μ13v2.1 66), .ref (b 17)])), (b 14, .inl (d 0, 100, .inl (μ13v2.2.2.1 64))), (b 15, .inl (d 3, 100, .inl (μ13v2.2.2.1 65))), (o, .inr (9, [.ref q13v2_1, .int (μ13v2.1 90), .int (μ13v2.1 91), .ref (b 0)]))]) (w' := fun u => XP d z b fl μ13v2 ++ [(o, .inr (9, [.ref q13v2_1, .int (μ13v2.1 90), .int (μ13v2.1 91), .ref (b 0)])), (q13v2_1, .inr (3, [.int y13v2_1_0, .int y13v2_1_1, .int y13v2_1_2])), (u, .inr (3, [.int r_19.1, .int r_19.2.1, .int r_19.2.2]))]) (lam_run (As := [.ref q13v2_1, .int x13v2_1]) (rest := []) (j := 4) S (by decide) (hZ.2.2.2.2.2.2.1 4 (by decide)) hS (tX0_lambda_new_2 l D d z K q13v2_1 (y13v2_1_0, y13v2_1_1, y13v2_1_2) x13v2_1 r_19 h_20 _) q1264 q202 q94 q203 rfl rfl ⟨(Nat.le_of_ble_eq_true rfl), (Nat.le_of_ble_eq_true rfl)⟩ ⟨Pw.blind, fun U hU hW => Pw.cut (tl := []) hK (by rw [List.append_nil]; exact hP) (by rw [List.append_nil]; exact hD) hZ hS hA [17] rfl rfl hU hW⟩ rfl (by rw [if_neg (by decide)]; exact ⟨_, _, rfl⟩) hl.1 rfl (lv_room (Nat.le_of_ble_eq_true rfl)) dX9_improve_41 ⟨(Nat.le_of_ble_eq_true rfl), (Nat.le_of_ble_eq_true rfl)⟩ (lam_hvR (by decide))) hP hD hS hA [17] [0, 1, 2, 3, 4, 5, 6, 7, 8, 9, 10, 11, 12, 13, 14, 15, 16] [0, 1, 2, 3, 4, 5, 6, 7, 8, 9, 10, 11, 12, 13, 14, 15, 16, 17, 18] rfl rfl rfl rfl (by decide) rfl (fun _ => rfl) ?_
    clear hP hD hS
    intro q_21 _ H locs hP hD hS
    clear h_20
    refine lv_astore (lv' := [(5, .ref q_21), (0, .ref o), (1, .int x13v2_1), (2, .ref q13v2_1), (3, .int x13v2_3), (4, .int (2 : Int32))]) hx hb dX9_improve_46 hl (by decide) rfl (fun ls hl => ?_)
    refine lv_aload hx hb dX9_improve_48 (lv_at hl 0 rfl) ?_
    obtain ⟨r_23, h_22, hf⟩ := b1_some hf
    refine run_i0 (wr := [(b 0, .inr (1, [.ref (b 1), .int (μ13v2.1 1), .int (μ13v2.1 2), .ref (b 2), .ref (b 3), .ref (b 4), va_rf fl, .ref (b 7), .ref (b 13), .ref (b 16), .int (μ13v2.1 10)])), (b 1, .inl (d 2, 500, .inl (μ13v2.2.2.1 1))), (b 2, .inl (d 5, 2, .inr (.inr (.inr (.inr (fun j => some (z.2.2 j))))))), (b 3, .inl (d 6, 5, .inr (.inr (.inr (.inr (fun j => some (z.2.2 (2 + j)))))))), (b 4, .inr (4, [.int (μ13v2.1 20), .long (μ13v2.2.1 21), .long (μ13v2.2.1 22), .long (μ13v2.2.1 23), .ref (b 5), .ref (b 6), .ref (b 0)])), (b 5, .inr (2, [.long (μ13v2.2.1 30), .long (μ13v2.2.1 31)])), (b 6, .inr (2, [.long (μ13v2.2.1 32), .long (μ13v2.2.1 33)])), (b 7, .inr (6, [.int (μ13v2.1 40), .int (μ13v2.1 41), .int (μ13v2.1 42), .int (μ13v2.1 43), .int (μ13v2.1 44), .int (μ13v2.1 45), .ref (b 8), .ref (b 9), .ref (b 10), .int (μ13v2.1 49), .ref (b 11), .ref (b 12), .int (μ13v2.1 52)])), (b 8, .inl (d 0, 16, .inl (μ13v2.2.2.1 46))), (b 9, .inl (d 1, 16, .inr (.inl (μ13v2.2.2.2.1 47)))), (b 10, .inl (d 1, 16, .inr (.inl (μ13v2.2.2.2.1 48)))), (b 11, .inl (d 0, 8, .inl (μ13v2.2.2.1 50))), (b 12, .inl (d 0, 8, .inl (μ13v2.2.2.1 51))), (b 13, .inr (8, [.int (μ13v2.1 60), .int (μ13v2.1 61), .int (μ13v2.1 62), .int (μ13v2.1 63), .ref (b 14), .ref (b 15), .int (μ13v2.1 66), .ref (b 17)])), (b 14, .inl (d 0, 100, .inl (μ13v2.2.2.1 64))), (b 15, .inl (d 3, 100, .inl (μ13v2.2.2.1 65))), (o, .inr (9, [.ref q13v2_1, .int (μ13v2.1 90), .int (μ13v2.1 91), .ref (b 0)])), (q13v2_1, .inr (3, [.int y13v2_1_0, .int y13v2_1_1, .int y13v2_1_2]))]) (w' := XP d z b fl μ13v2 ++ [(o, .inr (9, [.ref q13v2_1, .int (μ13v2.1 90), .int (μ13v2.1 91), .ref (b 0)])), (q13v2_1, .inr (3, [.int y13v2_1_0, .int y13v2_1_1, .int y13v2_1_2])), (q_21, .inr (3, [.int r_19.1, .int r_19.2.1, .int r_19.2.2]))]) (va_runV (As := []) (rest := []) S (tX2_isPossibleq l D d z q_21 K (r_19.1, r_19.2.1, r_19.2.2) r_23 h_22 _) (cwV 0 hts (lw_V q1267 q1268 q1269 q97 q1270) rfl rfl rfl (by decide +kernel) ⟨(Nat.le_of_ble_eq_true rfl), (Nat.le_of_ble_eq_true rfl)⟩) ⟨Pw.blind, (va_recv hK.1 hP (ci := 3) (q0 := 18) rfl rfl), fun U hU hW => Pw.cut (tl := []) hK (by rw [List.append_nil]; exact hP) (by rw [List.append_nil]; exact hD) hZ hS hA [18] rfl rfl hU hW⟩ rfl rfl hl.1 rfl (lv_room (Nat.le_of_ble_eq_true rfl)) dX9_improve_50 ⟨(Nat.le_of_ble_eq_true rfl), (Nat.le_of_ble_eq_true rfl)⟩) hP hD hS hA [18] [0, 1, 2, 3, 4, 5, 6, 7, 8, 9, 10, 11, 12, 13, 14, 15, 16, 17] [0, 1, 2, 3, 4, 5, 6, 7, 8, 9, 10, 11, 12, 13, 14, 15, 16, 17, 18] rfl rfl rfl rfl (by decide) rfl rfl ?_
    clear hP hD hS
    intro H locs hP hD hS
    clear h_22
    refine lv_if_eq (tgt := 65) hx hb dX9_improve_53 (by decide) (fun c_24 => ?_) (fun c_24 => ?_)
    · replace hf := it_f hf (bi_e0 c_24)
      clear c_24
      refine lv_ldc hx hb S.2.2.2.1 (hts _ q1272) dX9_improve_65 ?_
      exact L67v2 (99999 : Int32) x13v2_1 x13v2_3 q13v2_1 y13v2_1_0 y13v2_1_1 y13v2_1_2 q_21 r_19.1 r_19.2.1 r_19.2.2 μ13v2 _ _ _ hf hP hD hS (lv_sub hl [1, 2, 3, 4, 5, 0] rfl)
    · replace hf := it_t hf (bi_n0 c_24)
      clear c_24
      refine lv_aload_n hx hb dX9_improve_56 rfl (lv_at hl 1 rfl) ?_
      refine lv_aload hx hb dX9_improve_57 (lv_at hl 0 rfl) ?_
      obtain ⟨r_78, ξ_77, h_76, hf⟩ := b2_some hf
      refine run_i0 (wr := [(q13v2_1, .inr (3, [.int y13v2_1_0, .int y13v2_1_1, .int y13v2_1_2]))]) (w' := XP d z b fl ξ_77 ++ [(o, .inr (9, [.ref q13v2_1, .int (ξ_77.1 90), .int (ξ_77.1 91), .ref (b 0)])), (q13v2_1, .inr (3, [.int y13v2_1_0, .int y13v2_1_1, .int y13v2_1_2])), (q_21, .inr (3, [.int r_19.1, .int r_19.2.1, .int r_19.2.2]))]) (va_runV (As := [.ref q_21]) (rest := []) S (tX9_evaluate l D d z b fl K o q13v2_1 q_21 (r_19.1, r_19.2.1, r_19.2.2) μ13v2 r_78 ξ_77 h_76 _) (cwV 1 hts (lw_V q1253 q1255 qs36 q121 q1256) rfl rfl rfl (by decide +kernel) ⟨(Nat.le_of_ble_eq_true rfl), (Nat.le_of_ble_eq_true rfl)⟩) ⟨Pw.blind, (va_recv hK.1 hP (ci := 9) (q0 := 16) rfl rfl), fun U hU hW => Pw.cut (tl := []) hK (by rw [List.append_nil]; exact hP) (by rw [List.append_nil]; exact hD) hZ hS hA [0, 1, 2, 3, 4, 5, 6, 7, 8, 9, 10, 11, 12, 13, 14, 15, 16, 18] rfl rfl hU hW⟩ rfl rfl hl.1 rfl (lv_room (Nat.le_of_ble_eq_true rfl)) dX9_improve_59 ⟨(Nat.le_of_ble_eq_true rfl), (Nat.le_of_ble_eq_true rfl)⟩) hP hD hS hA [0, 1, 2, 3, 4, 5, 6, 7, 8, 9, 10, 11, 12, 13, 14, 15, 16, 18] [17] [1, 2, 3, 4, 5, 6, 7, 8, 9, 10, 11, 12, 13, 14, 15, 16, 17, 0, 18] rfl rfl rfl rfl (by decide) rfl rfl ?_
      clear hP hD hS
      intro H locs hP hD hS
      clear h_76
      refine lv_goto (tgt := 67) hx hb dX9_improve_62 (by decide) ?_
      exact L67v2 r_78 x13v2_1 x13v2_3 q13v2_1 y13v2_1_0 y13v2_1_1 y13v2_1_2 q_21 r_19.1 r_19.2.1 r_19.2.2 ξ_77 _ _ _ hf hP hD hS (lv_sub hl [1, 2, 3, 4, 5, 0] rfl)
  have L81v1 : ∀ (x81v1_1 : Int32) (x81v1_3 : Int32) (q81v1_1 : Nat) (y81v1_1_0 : Int32) (y81v1_1_1 : Int32) (y81v1_1_2 : Int32) (μ81v1 : XS) (H : Heap) (locs : List Loc) (ls : Array Slot), fX9_improve_L81v1 K x81v1_1 x81v1_3 y81v1_1_0 y81v1_1_1 y81v1_1_2 μ81v1 = some (r, t', μ') → va_P D CL (XP d z b fl μ81v1 ++ [(o, .inr (9, [.ref q81v1_1, .int (μ81v1.1 90), .int (μ81v1.1 91), .ref (b 0)])), (q81v1_1, .inr (3, [.int y81v1_1_0, .int y81v1_1_1, .int y81v1_1_2]))]) H → va_D A (XP d z b fl μ81v1 ++ [(o, .inr (9, [.ref q81v1_1, .int (μ81v1.1 90), .int (μ81v1.1 91), .ref (b 0)])), (q81v1_1, .inr (3, [.int y81v1_1_0, .int y81v1_1_1, .int y81v1_1_2]))]) → va_S A s.heap H locs → lv_has ls 7 [(0, .ref o), (1, .int x81v1_1), (2, .ref q81v1_1), (3, .int x81v1_3), (4, .int (1 : Int32))] → W p l e (rmc 8 5 15 174) s m args below meth c H locs 2 6 Q (F0 m 81 ls []) := by
    intro x81v1_1 x81v1_3 q81v1_1 y81v1_1_0 y81v1_1_1 y81v1_1_2 μ81v1 H locs ls hf hP hD hS hl
    unfold fX9_improve_L81v1 at hf
    refine lv_iinc (v := (2 : Int32)) (lv' := [(4, .int (2 : Int32)), (0, .ref o), (1, .int x81v1_1), (2, .ref q81v1_1), (3, .int x81v1_3)]) hx hb dX9_improve_81 hl (k := 4) rfl rfl (by decide) rfl (fun ls hl => ?_)
    refine lv_goto (tgt := 13) hx hb dX9_improve_84 (by decide) ?_
    exact L13v2 x81v1_1 x81v1_3 q81v1_1 y81v1_1_0 y81v1_1_1 y81v1_1_2 μ81v1 _ _ _ hf hP hD hS (lv_sub hl [1, 2, 3, 4, 0] rfl)
  have L67v7 : ∀ (t67v7_0 : Int32) (x67v7_1 : Int32) (x67v7_3 : Int32) (q67v7_1 : Nat) (y67v7_1_0 : Int32) (y67v7_1_1 : Int32) (y67v7_1_2 : Int32) (q67v7_2 : Nat) (y67v7_2_0 : Int32) (y67v7_2_1 : Int32) (y67v7_2_2 : Int32) (q67v7_3 : Nat) (y67v7_3_0 : Int32) (y67v7_3_1 : Int32) (y67v7_3_2 : Int32) (μ67v7 : XS) (H : Heap) (locs : List Loc) (ls : Array Slot), fX9_improve_L67v7 K t67v7_0 x67v7_1 x67v7_3 y67v7_1_0 y67v7_1_1 y67v7_1_2 y67v7_2_0 y67v7_2_1 y67v7_2_2 y67v7_3_0 y67v7_3_1 y67v7_3_2 μ67v7 = some (r, t', μ') → va_P D CL (XP d z b fl μ67v7 ++ [(o, .inr (9, [.ref q67v7_1, .int (μ67v7.1 90), .int (μ67v7.1 91), .ref (b 0)])), (q67v7_1, .inr (3, [.int y67v7_1_0, .int y67v7_1_1, .int y67v7_1_2])), (q67v7_2, .inr (3, [.int y67v7_2_0, .int y67v7_2_1, .int y67v7_2_2])), (q67v7_3, .inr (3, [.int y67v7_3_0, .int y67v7_3_1, .int y67v7_3_2]))]) H → va_D A (XP d z b fl μ67v7 ++ [(o, .inr (9, [.ref q67v7_1, .int (μ67v7.1 90), .int (μ67v7.1 91), .ref (b 0)])), (q67v7_1, .inr (3, [.int y67v7_1_0, .int y67v7_1_1, .int y67v7_1_2])), (q67v7_2, .inr (3, [.int y67v7_2_0, .int y67v7_2_1, .int y67v7_2_2])), (q67v7_3, .inr (3, [.int y67v7_3_0, .int y67v7_3_1, .int y67v7_3_2]))]) → va_S A s.heap H locs → lv_has ls 7 [(0, .ref o), (1, .int x67v7_1), (2, .ref q67v7_2), (3, .int x67v7_3), (4, .int (2 : Int32)), (5, .ref q67v7_3)] → W p l e (rmc 8 5 15 174) s m args below meth c H locs 3 9 Q (F0 m 67 ls [.int t67v7_0]) := by
    intro t67v7_0 x67v7_1 x67v7_3 q67v7_1 y67v7_1_0 y67v7_1_1 y67v7_1_2 q67v7_2 y67v7_2_0 y67v7_2_1 y67v7_2_2 q67v7_3 y67v7_3_0 y67v7_3_1 y67v7_3_2 μ67v7 H locs ls hf hP hD hS hl
    unfold fX9_improve_L67v7 at hf
    refine lv_istore (lv' := [(6, .int t67v7_0), (0, .ref o), (1, .int x67v7_1), (2, .ref q67v7_2), (3, .int x67v7_3), (4, .int (2 : Int32)), (5, .ref q67v7_3)]) hx hb dX9_improve_67 hl (by decide) rfl (fun ls hl => ?_)
    refine lv_iload hx hb dX9_improve_69 (lv_at hl 0 rfl) ?_
    refine lv_iload_n hx hb dX9_improve_71 rfl (lv_at hl 4 rfl) ?_
    refine lv_icmp_ge (tgt := 81) hx hb dX9_improve_72 (by decide) (fun c_86 => ?_) (fun c_86 => ?_)
    · replace hf := it_t hf c_86
      clear c_86
      replace hP := hP.sub (ws' := XP d z b fl μ67v7 ++ [(o, .inr (9, [.ref q67v7_1, .int (μ67v7.1 90), .int (μ67v7.1 91), .ref (b 0)])), (q67v7_1, .inr (3, [.int y67v7_1_0, .int y67v7_1_1, .int y67v7_1_2])), (q67v7_2, .inr (3, [.int y67v7_2_0, .int y67v7_2_1, .int y67v7_2_2]))]) [0, 1, 2, 3, 4, 5, 6, 7, 8, 9, 10, 11, 12, 13, 14, 15, 16, 17, 18] rfl
      replace hD := hD.sub (ws' := XP d z b fl μ67v7 ++ [(o, .inr (9, [.ref q67v7_1, .int (μ67v7.1 90), .int (μ67v7.1 91), .ref (b 0)])), (q67v7_1, .inr (3, [.int y67v7_1_0, .int y67v7_1_1, .int y67v7_1_2])), (q67v7_2, .inr (3, [.int y67v7_2_0, .int y67v7_2_1, .int y67v7_2_2]))]) [0, 1, 2, 3, 4, 5, 6, 7, 8, 9, 10, 11, 12, 13, 14, 15, 16, 17, 18] (by decide) rfl
      exact L81v7 x67v7_1 x67v7_3 q67v7_1 y67v7_1_0 y67v7_1_1 y67v7_1_2 q67v7_2 y67v7_2_0 y67v7_2_1 y67v7_2_2 μ67v7 _ _ _ hf hP hD hS (lv_sub hl [1, 2, 3, 4, 5] rfl)
    · replace hf := it_f hf c_86
      clear c_86
      refine lv_aload hx hb dX9_improve_75 (lv_at hl 6 rfl) ?_
      refine lv_astore_n (lv' := [(2, .ref q67v7_3), (6, .int t67v7_0), (0, .ref o), (1, .int x67v7_1), (3, .int x67v7_3), (4, .int (2 : Int32)), (5, .ref q67v7_3)]) hx hb dX9_improve_77 rfl hl (by decide) rfl (fun ls hl => ?_)
      refine lv_iload hx hb dX9_improve_78 (lv_at hl 1 rfl) ?_
      refine lv_istore_n (lv' := [(3, .int t67v7_0), (2, .ref q67v7_3), (6, .int t67v7_0), (0, .ref o), (1, .int x67v7_1), (4, .int (2 : Int32)), (5, .ref q67v7_3)]) hx hb dX9_improve_80 rfl hl (by decide) rfl (fun ls hl => ?_)
      replace hP := hP.sub (ws' := XP d z b fl μ67v7 ++ [(o, .inr (9, [.ref q67v7_1, .int (μ67v7.1 90), .int (μ67v7.1 91), .ref (b 0)])), (q67v7_1, .inr (3, [.int y67v7_1_0, .int y67v7_1_1, .int y67v7_1_2])), (q67v7_3, .inr (3, [.int y67v7_3_0, .int y67v7_3_1, .int y67v7_3_2]))]) [0, 1, 2, 3, 4, 5, 6, 7, 8, 9, 10, 11, 12, 13, 14, 15, 16, 17, 19] rfl
      replace hD := hD.sub (ws' := XP d z b fl μ67v7 ++ [(o, .inr (9, [.ref q67v7_1, .int (μ67v7.1 90), .int (μ67v7.1 91), .ref (b 0)])), (q67v7_1, .inr (3, [.int y67v7_1_0, .int y67v7_1_1, .int y67v7_1_2])), (q67v7_3, .inr (3, [.int y67v7_3_0, .int y67v7_3_1, .int y67v7_3_2]))]) [0, 1, 2, 3, 4, 5, 6, 7, 8, 9, 10, 11, 12, 13, 14, 15, 16, 17, 19] (by decide) rfl
      exact L81v7 x67v7_1 t67v7_0 q67v7_1 y67v7_1_0 y67v7_1_1 y67v7_1_2 q67v7_3 y67v7_3_0 y67v7_3_1 y67v7_3_2 μ67v7 _ _ _ hf hP hD hS (lv_sub hl [3, 4, 1, 0, 5] rfl)
  have L13v9 : ∀ (x13v9_1 : Int32) (x13v9_3 : Int32) (q13v9_1 : Nat) (y13v9_1_0 : Int32) (y13v9_1_1 : Int32) (y13v9_1_2 : Int32) (q13v9_2 : Nat) (y13v9_2_0 : Int32) (y13v9_2_1 : Int32) (y13v9_2_2 : Int32) (μ13v9 : XS) (H : Heap) (locs : List Loc) (ls : Array Slot), fX9_improve_L13v9 K x13v9_1 x13v9_3 y13v9_1_0 y13v9_1_1 y13v9_1_2 y13v9_2_0 y13v9_2_1 y13v9_2_2 μ13v9 = some (r, t', μ') → va_P D CL (XP d z b fl μ13v9 ++ [(o, .inr (9, [.ref q13v9_1, .int (μ13v9.1 90), .int (μ13v9.1 91), .ref (b 0)])), (q13v9_1, .inr (3, [.int y13v9_1_0, .int y13v9_1_1, .int y13v9_1_2])), (q13v9_2, .inr (3, [.int y13v9_2_0, .int y13v9_2_1, .int y13v9_2_2]))]) H → va_D A (XP d z b fl μ13v9 ++ [(o, .inr (9, [.ref q13v9_1, .int (μ13v9.1 90), .int (μ13v9.1 91), .ref (b 0)])), (q13v9_1, .inr (3, [.int y13v9_1_0, .int y13v9_1_1, .int y13v9_1_2])), (q13v9_2, .inr (3, [.int y13v9_2_0, .int y13v9_2_1, .int y13v9_2_2]))]) → va_S A s.heap H locs → lv_has ls 7 [(0, .ref o), (1, .int x13v9_1), (2, .ref q13v9_2), (3, .int x13v9_3), (4, .int (2 : Int32))] → W p l e (rmc 8 5 15 174) s m args below meth c H locs 2 6 Q (F0 m 13 ls []) := by
    intro x13v9_1 x13v9_3 q13v9_1 y13v9_1_0 y13v9_1_1 y13v9_1_2 q13v9_2 y13v9_2_0 y13v9_2_1 y13v9_2_2 μ13v9 H locs ls hf hP hD hS hl
    unfold fX9_improve_L13v9 at hf
    refine lv_iload hx hb dX9_improve_13 (lv_at hl 4 rfl) ?_
    refine lv_aload_n hx hb dX9_improve_15 rfl (lv_at hl 0 rfl) ?_
    refine g_get hx hb hts S.2.2.2.1 hK hP in_X9 16 rfl rfl 3 (by decide) q1279 (fun _ h9 => h9) (v := .ref (b 0)) rfl dX9_improve_16 ?_
    refine g_getN hx hb hts S.2.2.2.1 hK hP in_X0 0 rfl rfl 4 (by decide) q284 (fun _ h9 => h9) (v := .ref (b 3)) rfl dX9_improve_19 ?_
    refine g_len hx hb hK hP 3 6 rfl rfl (v := 5) rfl dX9_improve_22 ?_
    refine lv_icmp_ge (tgt := 87) hx hb dX9_improve_23 (by decide) (fun hc => absurd hc (by decide)) (fun hc => ?_)
    clear hc
    refine lv_aload_n hx hb dX9_improve_26 rfl (lv_at hl 0 rfl) ?_
    refine g_get hx hb hts S.2.2.2.1 hK hP in_X9 16 rfl rfl 3 (by decide) q1279 (fun _ h9 => h9) (v := .ref (b 0)) rfl dX9_improve_27 ?_
    refine g_getN hx hb hts S.2.2.2.1 hK hP in_X0 0 rfl rfl 4 (by decide) q284 (fun _ h9 => h9) (v := .ref (b 3)) rfl dX9_improve_30 ?_
    refine lv_iload hx hb dX9_improve_33 (lv_at hl 4 rfl) ?_
    refine g_aald hx hb hK hP 3 6 rfl rfl (ix_in (by decide)) dX9_improve_35 ?_
    refine lv_aload_n hx hb dX9_improve_36 rfl (lv_at hl 0 rfl) ?_
    refine g_get hx hb hts S.2.2.2.1 hK hP in_X9 16 rfl rfl 0 (by decide) q1273 (fun _ h9 => h9) (v := .ref q13v9_1) rfl dX9_improve_37 ?_
    refine lv_iload_n hx hb dX9_improve_40 rfl (lv_at hl 1 rfl) ?_
    obtain ⟨r_80, h_81, hf⟩ := b1_some hf
    refine run5_rS0 (wr := [(b 0, .inr (1, [.ref (b 1), .int (μ13v9.1 1), .int (μ13v9.1 2), .ref (b 2), .ref (b 3), .ref (b 4), va_rf fl, .ref (b 7), .ref (b 13), .ref (b 16), .int (μ13v9.1 10)])), (b 1, .inl (d 2, 500, .inl (μ13v9.2.2.1 1))), (b 2, .inl (d 5, 2, .inr (.inr (.inr (.inr (fun j => some (z.2.2 j))))))), (b 3, .inl (d 6, 5, .inr (.inr (.inr (.inr (fun j => some (z.2.2 (2 + j)))))))), (b 4, .inr (4, [.int (μ13v9.1 20), .long (μ13v9.2.1 21), .long (μ13v9.2.1 22), .long (μ13v9.2.1 23), .ref (b 5), .ref (b 6), .ref (b 0)])), (b 5, .inr (2, [.long (μ13v9.2.1 30), .long (μ13v9.2.1 31)])), (b 6, .inr (2, [.long (μ13v9.2.1 32), .long (μ13v9.2.1 33)])), (b 7, .inr (6, [.int (μ13v9.1 40), .int (μ13v9.1 41), .int (μ13v9.1 42), .int (μ13v9.1 43), .int (μ13v9.1 44), .int (μ13v9.1 45), .ref (b 8), .ref (b 9), .ref (b 10), .int (μ13v9.1 49), .ref (b 11), .ref (b 12), .int (μ13v9.1 52)])), (b 8, .inl (d 0, 16, .inl (μ13v9.2.2.1 46))), (b 9, .inl (d 1, 16, .inr (.inl (μ13v9.2.2.2.1 47)))), (b 10, .inl (d 1, 16, .inr (.inl (μ13v9.2.2.2.1 48)))), (b 11, .inl (d 0, 8, .inl (μ13v9.2.2.1 50))), (b 12, .inl (d 0, 8, .inl (μ13v9.2.2.1 51))), (b 13, .inr (8, [.int (μ13v9.1 60), .int (μ13v9.1 61), .int (μ13v9.1 62), .int (μ13v9.1 63), .ref (b 14), .ref (b 15), .int (μ13v9.1 66), .ref (b 17)])), (b 14, .inl (d 0, 100, .inl (μ13v9.2.2.1 64))), (b 15, .inl (d 3, 100, .inl (μ13v9.2.2.1 65))), (o, .inr (9, [.ref q13v9_1, .int (μ13v9.1 90), .int (μ13v9.1 91), .ref (b 0)])), (q13v9_2, .inr (3, [.int y13v9_2_0, .int y13v9_2_1, .int y13v9_2_2]))]) (w' := fun u => XP d z b fl μ13v9 ++ [(o, .inr (9, [.ref q13v9_1, .int (μ13v9.1 90), .int (μ13v9.1 91), .ref (b 0)])), (q13v9_1, .inr (3, [.int y13v9_1_0, .int y13v9_1_1, .int y13v9_1_2])), (q13v9_2, .inr (3, [.int y13v9_2_0, .int y13v9_2_1, .int y13v9_2_2])), (u, .inr (3, [.int r_80.1, .int r_80.2.1, .int r_80.2.2]))]) (lam_run (As := [.ref q13v9_1, .int x13v9_1]) (rest := []) (j := 4) S (by decide) (hZ.2.2.2.2.2.2.1 4 (by decide)) hS (tX0_lambda_new_2 l D d z K q13v9_1 (y13v9_1_0, y13v9_1_1, y13v9_1_2) x13v9_1 r_80 h_81 _) q1264 q202 q94 q203 rfl rfl ⟨(Nat.le_of_ble_eq_true rfl), (Nat.le_of_ble_eq_true rfl)⟩ ⟨Pw.blind, fun U hU hW => Pw.cut (tl := []) hK (by rw [List.append_nil]; exact hP) (by rw [List.append_nil]; exact hD) hZ hS hA [17] rfl rfl hU hW⟩ rfl (by rw [if_neg (by decide)]; exact ⟨_, _, rfl⟩) hl.1 rfl (lv_room (Nat.le_of_ble_eq_true rfl)) dX9_improve_41 ⟨(Nat.le_of_ble_eq_true rfl), (Nat.le_of_ble_eq_true rfl)⟩ (lam_hvR (by decide))) hP hD hS hA [17] [0, 1, 2, 3, 4, 5, 6, 7, 8, 9, 10, 11, 12, 13, 14, 15, 16, 18] [0, 1, 2, 3, 4, 5, 6, 7, 8, 9, 10, 11, 12, 13, 14, 15, 16, 18, 17, 19] rfl rfl rfl rfl (by decide) rfl (fun _ => rfl) ?_
    clear hP hD hS
    intro q_82 _ H locs hP hD hS
    clear h_81
    refine lv_astore (lv' := [(5, .ref q_82), (0, .ref o), (1, .int x13v9_1), (2, .ref q13v9_2), (3, .int x13v9_3), (4, .int (2 : Int32))]) hx hb dX9_improve_46 hl (by decide) rfl (fun ls hl => ?_)
    refine lv_aload hx hb dX9_improve_48 (lv_at hl 0 rfl) ?_
    obtain ⟨r_84, h_83, hf⟩ := b1_some hf
    refine run_i0 (wr := [(b 0, .inr (1, [.ref (b 1), .int (μ13v9.1 1), .int (μ13v9.1 2), .ref (b 2), .ref (b 3), .ref (b 4), va_rf fl, .ref (b 7), .ref (b 13), .ref (b 16), .int (μ13v9.1 10)])), (b 1, .inl (d 2, 500, .inl (μ13v9.2.2.1 1))), (b 2, .inl (d 5, 2, .inr (.inr (.inr (.inr (fun j => some (z.2.2 j))))))), (b 3, .inl (d 6, 5, .inr (.inr (.inr (.inr (fun j => some (z.2.2 (2 + j)))))))), (b 4, .inr (4, [.int (μ13v9.1 20), .long (μ13v9.2.1 21), .long (μ13v9.2.1 22), .long (μ13v9.2.1 23), .ref (b 5), .ref (b 6), .ref (b 0)])), (b 5, .inr (2, [.long (μ13v9.2.1 30), .long (μ13v9.2.1 31)])), (b 6, .inr (2, [.long (μ13v9.2.1 32), .long (μ13v9.2.1 33)])), (b 7, .inr (6, [.int (μ13v9.1 40), .int (μ13v9.1 41), .int (μ13v9.1 42), .int (μ13v9.1 43), .int (μ13v9.1 44), .int (μ13v9.1 45), .ref (b 8), .ref (b 9), .ref (b 10), .int (μ13v9.1 49), .ref (b 11), .ref (b 12), .int (μ13v9.1 52)])), (b 8, .inl (d 0, 16, .inl (μ13v9.2.2.1 46))), (b 9, .inl (d 1, 16, .inr (.inl (μ13v9.2.2.2.1 47)))), (b 10, .inl (d 1, 16, .inr (.inl (μ13v9.2.2.2.1 48)))), (b 11, .inl (d 0, 8, .inl (μ13v9.2.2.1 50))), (b 12, .inl (d 0, 8, .inl (μ13v9.2.2.1 51))), (b 13, .inr (8, [.int (μ13v9.1 60), .int (μ13v9.1 61), .int (μ13v9.1 62), .int (μ13v9.1 63), .ref (b 14), .ref (b 15), .int (μ13v9.1 66), .ref (b 17)])), (b 14, .inl (d 0, 100, .inl (μ13v9.2.2.1 64))), (b 15, .inl (d 3, 100, .inl (μ13v9.2.2.1 65))), (o, .inr (9, [.ref q13v9_1, .int (μ13v9.1 90), .int (μ13v9.1 91), .ref (b 0)])), (q13v9_1, .inr (3, [.int y13v9_1_0, .int y13v9_1_1, .int y13v9_1_2])), (q13v9_2, .inr (3, [.int y13v9_2_0, .int y13v9_2_1, .int y13v9_2_2]))]) (w' := XP d z b fl μ13v9 ++ [(o, .inr (9, [.ref q13v9_1, .int (μ13v9.1 90), .int (μ13v9.1 91), .ref (b 0)])), (q13v9_1, .inr (3, [.int y13v9_1_0, .int y13v9_1_1, .int y13v9_1_2])), (q13v9_2, .inr (3, [.int y13v9_2_0, .int y13v9_2_1, .int y13v9_2_2])), (q_82, .inr (3, [.int r_80.1, .int r_80.2.1, .int r_80.2.2]))]) (va_runV (As := []) (rest := []) S (tX2_isPossibleq l D d z q_82 K (r_80.1, r_80.2.1, r_80.2.2) r_84 h_83 _) (cwV 0 hts (lw_V q1267 q1268 q1269 q97 q1270) rfl rfl rfl (by decide +kernel) ⟨(Nat.le_of_ble_eq_true rfl), (Nat.le_of_ble_eq_true rfl)⟩) ⟨Pw.blind, (va_recv hK.1 hP (ci := 3) (q0 := 19) rfl rfl), fun U hU hW => Pw.cut (tl := []) hK (by rw [List.append_nil]; exact hP) (by rw [List.append_nil]; exact hD) hZ hS hA [19] rfl rfl hU hW⟩ rfl rfl hl.1 rfl (lv_room (Nat.le_of_ble_eq_true rfl)) dX9_improve_50 ⟨(Nat.le_of_ble_eq_true rfl), (Nat.le_of_ble_eq_true rfl)⟩) hP hD hS hA [19] [0, 1, 2, 3, 4, 5, 6, 7, 8, 9, 10, 11, 12, 13, 14, 15, 16, 17, 18] [0, 1, 2, 3, 4, 5, 6, 7, 8, 9, 10, 11, 12, 13, 14, 15, 16, 17, 18, 19] rfl rfl rfl rfl (by decide) rfl rfl ?_
    clear hP hD hS
    intro H locs hP hD hS
    clear h_83
    refine lv_if_eq (tgt := 65) hx hb dX9_improve_53 (by decide) (fun c_85 => ?_) (fun c_85 => ?_)
    · replace hf := it_f hf (bi_e0 c_85)
      clear c_85
      refine lv_ldc hx hb S.2.2.2.1 (hts _ q1272) dX9_improve_65 ?_
      exact L67v7 (99999 : Int32) x13v9_1 x13v9_3 q13v9_1 y13v9_1_0 y13v9_1_1 y13v9_1_2 q13v9_2 y13v9_2_0 y13v9_2_1 y13v9_2_2 q_82 r_80.1 r_80.2.1 r_80.2.2 μ13v9 _ _ _ hf hP hD hS (lv_sub hl [1, 2, 3, 4, 5, 0] rfl)
    · replace hf := it_t hf (bi_n0 c_85)
      clear c_85
      refine lv_aload_n hx hb dX9_improve_56 rfl (lv_at hl 1 rfl) ?_
      refine lv_aload hx hb dX9_improve_57 (lv_at hl 0 rfl) ?_
      obtain ⟨r_89, ξ_88, h_87, hf⟩ := b2_some hf
      refine run_i0 (wr := [(q13v9_1, .inr (3, [.int y13v9_1_0, .int y13v9_1_1, .int y13v9_1_2])), (q13v9_2, .inr (3, [.int y13v9_2_0, .int y13v9_2_1, .int y13v9_2_2]))]) (w' := XP d z b fl ξ_88 ++ [(o, .inr (9, [.ref q13v9_1, .int (ξ_88.1 90), .int (ξ_88.1 91), .ref (b 0)])), (q13v9_1, .inr (3, [.int y13v9_1_0, .int y13v9_1_1, .int y13v9_1_2])), (q13v9_2, .inr (3, [.int y13v9_2_0, .int y13v9_2_1, .int y13v9_2_2])), (q_82, .inr (3, [.int r_80.1, .int r_80.2.1, .int r_80.2.2]))]) (va_runV (As := [.ref q_82]) (rest := []) S (tX9_evaluate l D d z b fl K o q13v9_1 q_82 (r_80.1, r_80.2.1, r_80.2.2) μ13v9 r_89 ξ_88 h_87 _) (cwV 1 hts (lw_V q1253 q1255 qs36 q121 q1256) rfl rfl rfl (by decide +kernel) ⟨(Nat.le_of_ble_eq_true rfl), (Nat.le_of_ble_eq_true rfl)⟩) ⟨Pw.blind, (va_recv hK.1 hP (ci := 9) (q0 := 16) rfl rfl), fun U hU hW => Pw.cut (tl := []) hK (by rw [List.append_nil]; exact hP) (by rw [List.append_nil]; exact hD) hZ hS hA [0, 1, 2, 3, 4, 5, 6, 7, 8, 9, 10, 11, 12, 13, 14, 15, 16, 19] rfl rfl hU hW⟩ rfl rfl hl.1 rfl (lv_room (Nat.le_of_ble_eq_true rfl)) dX9_improve_59 ⟨(Nat.le_of_ble_eq_true rfl), (Nat.le_of_ble_eq_true rfl)⟩) hP hD hS hA [0, 1, 2, 3, 4, 5, 6, 7, 8, 9, 10, 11, 12, 13, 14, 15, 16, 19] [17, 18] [2, 3, 4, 5, 6, 7, 8, 9, 10, 11, 12, 13, 14, 15, 16, 17, 18, 0, 1, 19] rfl rfl rfl rfl (by decide) rfl rfl ?_
      clear hP hD hS
      intro H locs hP hD hS
      clear h_87
      refine lv_goto (tgt := 67) hx hb dX9_improve_62 (by decide) ?_
      exact L67v7 r_89 x13v9_1 x13v9_3 q13v9_1 y13v9_1_0 y13v9_1_1 y13v9_1_2 q13v9_2 y13v9_2_0 y13v9_2_1 y13v9_2_2 q_82 r_80.1 r_80.2.1 r_80.2.2 ξ_88 _ _ _ hf hP hD hS (lv_sub hl [1, 2, 3, 4, 5, 0] rfl)
  have L81v8 : ∀ (x81v8_1 : Int32) (x81v8_3 : Int32) (q81v8_1 : Nat) (y81v8_1_0 : Int32) (y81v8_1_1 : Int32) (y81v8_1_2 : Int32) (q81v8_2 : Nat) (y81v8_2_0 : Int32) (y81v8_2_1 : Int32) (y81v8_2_2 : Int32) (μ81v8 : XS) (H : Heap) (locs : List Loc) (ls : Array Slot), fX9_improve_L81v8 K x81v8_1 x81v8_3 y81v8_1_0 y81v8_1_1 y81v8_1_2 y81v8_2_0 y81v8_2_1 y81v8_2_2 μ81v8 = some (r, t', μ') → va_P D CL (XP d z b fl μ81v8 ++ [(o, .inr (9, [.ref q81v8_1, .int (μ81v8.1 90), .int (μ81v8.1 91), .ref (b 0)])), (q81v8_1, .inr (3, [.int y81v8_1_0, .int y81v8_1_1, .int y81v8_1_2])), (q81v8_2, .inr (3, [.int y81v8_2_0, .int y81v8_2_1, .int y81v8_2_2]))]) H → va_D A (XP d z b fl μ81v8 ++ [(o, .inr (9, [.ref q81v8_1, .int (μ81v8.1 90), .int (μ81v8.1 91), .ref (b 0)])), (q81v8_1, .inr (3, [.int y81v8_1_0, .int y81v8_1_1, .int y81v8_1_2])), (q81v8_2, .inr (3, [.int y81v8_2_0, .int y81v8_2_1, .int y81v8_2_2]))]) → va_S A s.heap H locs → lv_has ls 7 [(0, .ref o), (1, .int x81v8_1), (2, .ref q81v8_2), (3, .int x81v8_3), (4, .int (1 : Int32))] → W p l e (rmc 8 5 15 174) s m args below meth c H locs 2 6 Q (F0 m 81 ls []) := by
    intro x81v8_1 x81v8_3 q81v8_1 y81v8_1_0 y81v8_1_1 y81v8_1_2 q81v8_2 y81v8_2_0 y81v8_2_1 y81v8_2_2 μ81v8 H locs ls hf hP hD hS hl
    unfold fX9_improve_L81v8 at hf
    refine lv_iinc (v := (2 : Int32)) (lv' := [(4, .int (2 : Int32)), (0, .ref o), (1, .int x81v8_1), (2, .ref q81v8_2), (3, .int x81v8_3)]) hx hb dX9_improve_81 hl (k := 4) rfl rfl (by decide) rfl (fun ls hl => ?_)
    refine lv_goto (tgt := 13) hx hb dX9_improve_84 (by decide) ?_
    exact L13v9 x81v8_1 x81v8_3 q81v8_1 y81v8_1_0 y81v8_1_1 y81v8_1_2 q81v8_2 y81v8_2_0 y81v8_2_1 y81v8_2_2 μ81v8 _ _ _ hf hP hD hS (lv_sub hl [1, 2, 3, 4, 0] rfl)
  have L67v1 : ∀ (t67v1_0 : Int32) (x67v1_1 : Int32) (x67v1_3 : Int32) (q67v1_1 : Nat) (y67v1_1_0 : Int32) (y67v1_1_1 : Int32) (y67v1_1_2 : Int32) (q67v1_2 : Nat) (y67v1_2_0 : Int32) (y67v1_2_1 : Int32) (y67v1_2_2 : Int32) (μ67v1 : XS) (H : Heap) (locs : List Loc) (ls : Array Slot), fX9_improve_L67v1 K t67v1_0 x67v1_1 x67v1_3 y67v1_1_0 y67v1_1_1 y67v1_1_2 y67v1_2_0 y67v1_2_1 y67v1_2_2 μ67v1 = some (r, t', μ') → va_P D CL (XP d z b fl μ67v1 ++ [(o, .inr (9, [.ref q67v1_1, .int (μ67v1.1 90), .int (μ67v1.1 91), .ref (b 0)])), (q67v1_1, .inr (3, [.int y67v1_1_0, .int y67v1_1_1, .int y67v1_1_2])), (q67v1_2, .inr (3, [.int y67v1_2_0, .int y67v1_2_1, .int y67v1_2_2]))]) H → va_D A (XP d z b fl μ67v1 ++ [(o, .inr (9, [.ref q67v1_1, .int (μ67v1.1 90), .int (μ67v1.1 91), .ref (b 0)])), (q67v1_1, .inr (3, [.int y67v1_1_0, .int y67v1_1_1, .int y67v1_1_2])), (q67v1_2, .inr (3, [.int y67v1_2_0, .int y67v1_2_1, .int y67v1_2_2]))]) → va_S A s.heap H locs → lv_has ls 7 [(0, .ref o), (1, .int x67v1_1), (2, .ref q67v1_1), (3, .int x67v1_3), (4, .int (1 : Int32)), (5, .ref q67v1_2)] → W p l e (rmc 8 5 15 174) s m args below meth c H locs 2 6 Q (F0 m 67 ls [.int t67v1_0]) := by
    intro t67v1_0 x67v1_1 x67v1_3 q67v1_1 y67v1_1_0 y67v1_1_1 y67v1_1_2 q67v1_2 y67v1_2_0 y67v1_2_1 y67v1_2_2 μ67v1 H locs ls hf hP hD hS hl
    unfold fX9_improve_L67v1 at hf
    refine lv_istore (lv' := [(6, .int t67v1_0), (0, .ref o), (1, .int x67v1_1), (2, .ref q67v1_1), (3, .int x67v1_3), (4, .int (1 : Int32)), (5, .ref q67v1_2)]) hx hb dX9_improve_67 hl (by decide) rfl (fun ls hl => ?_)
    refine lv_iload hx hb dX9_improve_69 (lv_at hl 0 rfl) ?_
    refine lv_iload_n hx hb dX9_improve_71 rfl (lv_at hl 4 rfl) ?_
    refine lv_icmp_ge (tgt := 81) hx hb dX9_improve_72 (by decide) (fun c_17 => ?_) (fun c_17 => ?_)
    · replace hf := it_t hf c_17
      clear c_17
      replace hP := hP.sub (ws' := XP d z b fl μ67v1 ++ [(o, .inr (9, [.ref q67v1_1, .int (μ67v1.1 90), .int (μ67v1.1 91), .ref (b 0)])), (q67v1_1, .inr (3, [.int y67v1_1_0, .int y67v1_1_1, .int y67v1_1_2]))]) [0, 1, 2, 3, 4, 5, 6, 7, 8, 9, 10, 11, 12, 13, 14, 15, 16, 17] rfl
      replace hD := hD.sub (ws' := XP d z b fl μ67v1 ++ [(o, .inr (9, [.ref q67v1_1, .int (μ67v1.1 90), .int (μ67v1.1 91), .ref (b 0)])), (q67v1_1, .inr (3, [.int y67v1_1_0, .int y67v1_1_1, .int y67v1_1_2]))]) [0, 1, 2, 3, 4, 5, 6, 7, 8, 9, 10, 11, 12, 13, 14, 15, 16, 17] (by decide) rfl
      exact L81v1 x67v1_1 x67v1_3 q67v1_1 y67v1_1_0 y67v1_1_1 y67v1_1_2 μ67v1 _ _ _ hf hP hD hS (lv_sub hl [1, 2, 3, 4, 5] rfl)
    · replace hf := it_f hf c_17
      clear c_17
      refine lv_aload hx hb dX9_improve_75 (lv_at hl 6 rfl) ?_
      refine lv_astore_n (lv' := [(2, .ref q67v1_2), (6, .int t67v1_0), (0, .ref o), (1, .int x67v1_1), (3, .int x67v1_3), (4, .int (1 : Int32)), (5, .ref q67v1_2)]) hx hb dX9_improve_77 rfl hl (by decide) rfl (fun ls hl => ?_)
      refine lv_iload hx hb dX9_improve_78 (lv_at hl 1 rfl) ?_
      refine lv_istore_n (lv' := [(3, .int t67v1_0), (2, .ref q67v1_2), (6, .int t67v1_0), (0, .ref o), (1, .int x67v1_1), (4, .int (1 : Int32)), (5, .ref q67v1_2)]) hx hb dX9_improve_80 rfl hl (by decide) rfl (fun ls hl => ?_)
      exact L81v8 x67v1_1 t67v1_0 q67v1_1 y67v1_1_0 y67v1_1_1 y67v1_1_2 q67v1_2 y67v1_2_0 y67v1_2_1 y67v1_2_2 μ67v1 _ _ _ hf hP hD hS (lv_sub hl [3, 4, 1, 0, 5] rfl)
  have L13v1 : ∀ (x13v1_1 : Int32) (x13v1_3 : Int32) (q13v1_1 : Nat) (y13v1_1_0 : Int32) (y13v1_1_1 : Int32) (y13v1_1_2 : Int32) (μ13v1 : XS) (H : Heap) (locs : List Loc) (ls : Array Slot), fX9_improve_L13v1 K x13v1_1 x13v1_3 y13v1_1_0 y13v1_1_1 y13v1_1_2 μ13v1 = some (r, t', μ') → va_P D CL (XP d z b fl μ13v1 ++ [(o, .inr (9, [.ref q13v1_1, .int (μ13v1.1 90), .int (μ13v1.1 91), .ref (b 0)])), (q13v1_1, .inr (3, [.int y13v1_1_0, .int y13v1_1_1, .int y13v1_1_2]))]) H → va_D A (XP d z b fl μ13v1 ++ [(o, .inr (9, [.ref q13v1_1, .int (μ13v1.1 90), .int (μ13v1.1 91), .ref (b 0)])), (q13v1_1, .inr (3, [.int y13v1_1_0, .int y13v1_1_1, .int y13v1_1_2]))]) → va_S A s.heap H locs → lv_has ls 7 [(0, .ref o), (1, .int x13v1_1), (2, .ref q13v1_1), (3, .int x13v1_3), (4, .int (1 : Int32))] → W p l e (rmc 8 5 15 174) s m args below meth c H locs 1 3 Q (F0 m 13 ls []) := by
    intro x13v1_1 x13v1_3 q13v1_1 y13v1_1_0 y13v1_1_1 y13v1_1_2 μ13v1 H locs ls hf hP hD hS hl
    unfold fX9_improve_L13v1 at hf
    refine lv_iload hx hb dX9_improve_13 (lv_at hl 4 rfl) ?_
    refine lv_aload_n hx hb dX9_improve_15 rfl (lv_at hl 0 rfl) ?_
    refine g_get hx hb hts S.2.2.2.1 hK hP in_X9 16 rfl rfl 3 (by decide) q1279 (fun _ h9 => h9) (v := .ref (b 0)) rfl dX9_improve_16 ?_
    refine g_getN hx hb hts S.2.2.2.1 hK hP in_X0 0 rfl rfl 4 (by decide) q284 (fun _ h9 => h9) (v := .ref (b 3)) rfl dX9_improve_19 ?_
    refine g_len hx hb hK hP 3 6 rfl rfl (v := 5) rfl dX9_improve_22 ?_
    refine lv_icmp_ge (tgt := 87) hx hb dX9_improve_23 (by decide) (fun hc => absurd hc (by decide)) (fun hc => ?_)
    clear hc
    refine lv_aload_n hx hb dX9_improve_26 rfl (lv_at hl 0 rfl) ?_
    refine g_get hx hb hts S.2.2.2.1 hK hP in_X9 16 rfl rfl 3 (by decide) q1279 (fun _ h9 => h9) (v := .ref (b 0)) rfl dX9_improve_27 ?_
    refine g_getN hx hb hts S.2.2.2.1 hK hP in_X0 0 rfl rfl 4 (by decide) q284 (fun _ h9 => h9) (v := .ref (b 3)) rfl dX9_improve_30 ?_
    refine lv_iload hx hb dX9_improve_33 (lv_at hl 4 rfl) ?_
    refine g_aald hx hb hK hP 3 6 rfl rfl (ix_in (by decide)) dX9_improve_35 ?_
    refine lv_aload_n hx hb dX9_improve_36 rfl (lv_at hl 0 rfl) ?_
    refine g_get hx hb hts S.2.2.2.1 hK hP in_X9 16 rfl rfl 0 (by decide) q1273 (fun _ h9 => h9) (v := .ref q13v1_1) rfl dX9_improve_37 ?_
    refine lv_iload_n hx hb dX9_improve_40 rfl (lv_at hl 1 rfl) ?_
    obtain ⟨r_11, h_12, hf⟩ := b1_some hf
    refine run5_rS0 (wr := [(b 0, .inr (1, [.ref (b 1), .int (μ13v1.1 1), .int (μ13v1.1 2), .ref (b 2), .ref (b 3), .ref (b 4), va_rf fl, .ref (b 7), .ref (b 13), .ref (b 16), .int (μ13v1.1 10)])), (b 1, .inl (d 2, 500, .inl (μ13v1.2.2.1 1))), (b 2, .inl (d 5, 2, .inr (.inr (.inr (.inr (fun j => some (z.2.2 j))))))), (b 3, .inl (d 6, 5, .inr (.inr (.inr (.inr (fun j => some (z.2.2 (2 + j)))))))), (b 4, .inr (4, [.int (μ13v1.1 20), .long (μ13v1.2.1 21), .long (μ13v1.2.1 22), .long (μ13v1.2.1 23), .ref (b 5), .ref (b 6), .ref (b 0)])), (b 5, .inr (2, [.long (μ13v1.2.1 30), .long (μ13v1.2.1 31)])), (b 6, .inr (2, [.long (μ13v1.2.1 32), .long (μ13v1.2.1 33)])), (b 7, .inr (6, [.int (μ13v1.1 40), .int (μ13v1.1 41), .int (μ13v1.1 42), .int (μ13v1.1 43), .int (μ13v1.1 44), .int (μ13v1.1 45), .ref (b 8), .ref (b 9), .ref (b 10), .int (μ13v1.1 49), .ref (b 11), .ref (b 12), .int (μ13v1.1 52)])), (b 8, .inl (d 0, 16, .inl (μ13v1.2.2.1 46))), (b 9, .inl (d 1, 16, .inr (.inl (μ13v1.2.2.2.1 47)))), (b 10, .inl (d 1, 16, .inr (.inl (μ13v1.2.2.2.1 48)))), (b 11, .inl (d 0, 8, .inl (μ13v1.2.2.1 50))), (b 12, .inl (d 0, 8, .inl (μ13v1.2.2.1 51))), (b 13, .inr (8, [.int (μ13v1.1 60), .int (μ13v1.1 61), .int (μ13v1.1 62), .int (μ13v1.1 63), .ref (b 14), .ref (b 15), .int (μ13v1.1 66), .ref (b 17)])), (b 14, .inl (d 0, 100, .inl (μ13v1.2.2.1 64))), (b 15, .inl (d 3, 100, .inl (μ13v1.2.2.1 65))), (o, .inr (9, [.ref q13v1_1, .int (μ13v1.1 90), .int (μ13v1.1 91), .ref (b 0)]))]) (w' := fun u => XP d z b fl μ13v1 ++ [(o, .inr (9, [.ref q13v1_1, .int (μ13v1.1 90), .int (μ13v1.1 91), .ref (b 0)])), (q13v1_1, .inr (3, [.int y13v1_1_0, .int y13v1_1_1, .int y13v1_1_2])), (u, .inr (3, [.int r_11.1, .int r_11.2.1, .int r_11.2.2]))]) (lam_run (As := [.ref q13v1_1, .int x13v1_1]) (rest := []) (j := 3) S (by decide) (hZ.2.2.2.2.2.2.1 3 (by decide)) hS (tX0_lambda_new_1 l D d z K q13v1_1 (y13v1_1_0, y13v1_1_1, y13v1_1_2) x13v1_1 r_11 h_12 _) q1264 q200 q94 q201 rfl rfl ⟨(Nat.le_of_ble_eq_true rfl), (Nat.le_of_ble_eq_true rfl)⟩ ⟨Pw.blind, fun U hU hW => Pw.cut (tl := []) hK (by rw [List.append_nil]; exact hP) (by rw [List.append_nil]; exact hD) hZ hS hA [17] rfl rfl hU hW⟩ rfl (by rw [if_neg (by decide)]; exact ⟨_, _, rfl⟩) hl.1 rfl (lv_room (Nat.le_of_ble_eq_true rfl)) dX9_improve_41 ⟨(Nat.le_of_ble_eq_true rfl), (Nat.le_of_ble_eq_true rfl)⟩ (lam_hvR (by decide))) hP hD hS hA [17] [0, 1, 2, 3, 4, 5, 6, 7, 8, 9, 10, 11, 12, 13, 14, 15, 16] [0, 1, 2, 3, 4, 5, 6, 7, 8, 9, 10, 11, 12, 13, 14, 15, 16, 17, 18] rfl rfl rfl rfl (by decide) rfl (fun _ => rfl) ?_
    clear hP hD hS
    intro q_13 _ H locs hP hD hS
    clear h_12
    refine lv_astore (lv' := [(5, .ref q_13), (0, .ref o), (1, .int x13v1_1), (2, .ref q13v1_1), (3, .int x13v1_3), (4, .int (1 : Int32))]) hx hb dX9_improve_46 hl (by decide) rfl (fun ls hl => ?_)
    refine lv_aload hx hb dX9_improve_48 (lv_at hl 0 rfl) ?_
    obtain ⟨r_15, h_14, hf⟩ := b1_some hf
    refine run_i0 (wr := [(b 0, .inr (1, [.ref (b 1), .int (μ13v1.1 1), .int (μ13v1.1 2), .ref (b 2), .ref (b 3), .ref (b 4), va_rf fl, .ref (b 7), .ref (b 13), .ref (b 16), .int (μ13v1.1 10)])), (b 1, .inl (d 2, 500, .inl (μ13v1.2.2.1 1))), (b 2, .inl (d 5, 2, .inr (.inr (.inr (.inr (fun j => some (z.2.2 j))))))), (b 3, .inl (d 6, 5, .inr (.inr (.inr (.inr (fun j => some (z.2.2 (2 + j)))))))), (b 4, .inr (4, [.int (μ13v1.1 20), .long (μ13v1.2.1 21), .long (μ13v1.2.1 22), .long (μ13v1.2.1 23), .ref (b 5), .ref (b 6), .ref (b 0)])), (b 5, .inr (2, [.long (μ13v1.2.1 30), .long (μ13v1.2.1 31)])), (b 6, .inr (2, [.long (μ13v1.2.1 32), .long (μ13v1.2.1 33)])), (b 7, .inr (6, [.int (μ13v1.1 40), .int (μ13v1.1 41), .int (μ13v1.1 42), .int (μ13v1.1 43), .int (μ13v1.1 44), .int (μ13v1.1 45), .ref (b 8), .ref (b 9), .ref (b 10), .int (μ13v1.1 49), .ref (b 11), .ref (b 12), .int (μ13v1.1 52)])), (b 8, .inl (d 0, 16, .inl (μ13v1.2.2.1 46))), (b 9, .inl (d 1, 16, .inr (.inl (μ13v1.2.2.2.1 47)))), (b 10, .inl (d 1, 16, .inr (.inl (μ13v1.2.2.2.1 48)))), (b 11, .inl (d 0, 8, .inl (μ13v1.2.2.1 50))), (b 12, .inl (d 0, 8, .inl (μ13v1.2.2.1 51))), (b 13, .inr (8, [.int (μ13v1.1 60), .int (μ13v1.1 61), .int (μ13v1.1 62), .int (μ13v1.1 63), .ref (b 14), .ref (b 15), .int (μ13v1.1 66), .ref (b 17)])), (b 14, .inl (d 0, 100, .inl (μ13v1.2.2.1 64))), (b 15, .inl (d 3, 100, .inl (μ13v1.2.2.1 65))), (o, .inr (9, [.ref q13v1_1, .int (μ13v1.1 90), .int (μ13v1.1 91), .ref (b 0)])), (q13v1_1, .inr (3, [.int y13v1_1_0, .int y13v1_1_1, .int y13v1_1_2]))]) (w' := XP d z b fl μ13v1 ++ [(o, .inr (9, [.ref q13v1_1, .int (μ13v1.1 90), .int (μ13v1.1 91), .ref (b 0)])), (q13v1_1, .inr (3, [.int y13v1_1_0, .int y13v1_1_1, .int y13v1_1_2])), (q_13, .inr (3, [.int r_11.1, .int r_11.2.1, .int r_11.2.2]))]) (va_runV (As := []) (rest := []) S (tX2_isPossibleq l D d z q_13 K (r_11.1, r_11.2.1, r_11.2.2) r_15 h_14 _) (cwV 0 hts (lw_V q1267 q1268 q1269 q97 q1270) rfl rfl rfl (by decide +kernel) ⟨(Nat.le_of_ble_eq_true rfl), (Nat.le_of_ble_eq_true rfl)⟩) ⟨Pw.blind, (va_recv hK.1 hP (ci := 3) (q0 := 18) rfl rfl), fun U hU hW => Pw.cut (tl := []) hK (by rw [List.append_nil]; exact hP) (by rw [List.append_nil]; exact hD) hZ hS hA [18] rfl rfl hU hW⟩ rfl rfl hl.1 rfl (lv_room (Nat.le_of_ble_eq_true rfl)) dX9_improve_50 ⟨(Nat.le_of_ble_eq_true rfl), (Nat.le_of_ble_eq_true rfl)⟩) hP hD hS hA [18] [0, 1, 2, 3, 4, 5, 6, 7, 8, 9, 10, 11, 12, 13, 14, 15, 16, 17] [0, 1, 2, 3, 4, 5, 6, 7, 8, 9, 10, 11, 12, 13, 14, 15, 16, 17, 18] rfl rfl rfl rfl (by decide) rfl rfl ?_
    clear hP hD hS
    intro H locs hP hD hS
    clear h_14
    refine lv_if_eq (tgt := 65) hx hb dX9_improve_53 (by decide) (fun c_16 => ?_) (fun c_16 => ?_)
    · replace hf := it_f hf (bi_e0 c_16)
      clear c_16
      refine lv_ldc hx hb S.2.2.2.1 (hts _ q1272) dX9_improve_65 ?_
      exact L67v1 (99999 : Int32) x13v1_1 x13v1_3 q13v1_1 y13v1_1_0 y13v1_1_1 y13v1_1_2 q_13 r_11.1 r_11.2.1 r_11.2.2 μ13v1 _ _ _ hf hP hD hS (lv_sub hl [1, 2, 3, 4, 5, 0] rfl)
    · replace hf := it_t hf (bi_n0 c_16)
      clear c_16
      refine lv_aload_n hx hb dX9_improve_56 rfl (lv_at hl 1 rfl) ?_
      refine lv_aload hx hb dX9_improve_57 (lv_at hl 0 rfl) ?_
      obtain ⟨r_92, ξ_91, h_90, hf⟩ := b2_some hf
      refine run_i0 (wr := [(q13v1_1, .inr (3, [.int y13v1_1_0, .int y13v1_1_1, .int y13v1_1_2]))]) (w' := XP d z b fl ξ_91 ++ [(o, .inr (9, [.ref q13v1_1, .int (ξ_91.1 90), .int (ξ_91.1 91), .ref (b 0)])), (q13v1_1, .inr (3, [.int y13v1_1_0, .int y13v1_1_1, .int y13v1_1_2])), (q_13, .inr (3, [.int r_11.1, .int r_11.2.1, .int r_11.2.2]))]) (va_runV (As := [.ref q_13]) (rest := []) S (tX9_evaluate l D d z b fl K o q13v1_1 q_13 (r_11.1, r_11.2.1, r_11.2.2) μ13v1 r_92 ξ_91 h_90 _) (cwV 1 hts (lw_V q1253 q1255 qs36 q121 q1256) rfl rfl rfl (by decide +kernel) ⟨(Nat.le_of_ble_eq_true rfl), (Nat.le_of_ble_eq_true rfl)⟩) ⟨Pw.blind, (va_recv hK.1 hP (ci := 9) (q0 := 16) rfl rfl), fun U hU hW => Pw.cut (tl := []) hK (by rw [List.append_nil]; exact hP) (by rw [List.append_nil]; exact hD) hZ hS hA [0, 1, 2, 3, 4, 5, 6, 7, 8, 9, 10, 11, 12, 13, 14, 15, 16, 18] rfl rfl hU hW⟩ rfl rfl hl.1 rfl (lv_room (Nat.le_of_ble_eq_true rfl)) dX9_improve_59 ⟨(Nat.le_of_ble_eq_true rfl), (Nat.le_of_ble_eq_true rfl)⟩) hP hD hS hA [0, 1, 2, 3, 4, 5, 6, 7, 8, 9, 10, 11, 12, 13, 14, 15, 16, 18] [17] [1, 2, 3, 4, 5, 6, 7, 8, 9, 10, 11, 12, 13, 14, 15, 16, 17, 0, 18] rfl rfl rfl rfl (by decide) rfl rfl ?_
      clear hP hD hS
      intro H locs hP hD hS
      clear h_90
      refine lv_goto (tgt := 67) hx hb dX9_improve_62 (by decide) ?_
      exact L67v1 r_92 x13v1_1 x13v1_3 q13v1_1 y13v1_1_0 y13v1_1_1 y13v1_1_2 q_13 r_11.1 r_11.2.1 r_11.2.2 ξ_91 _ _ _ hf hP hD hS (lv_sub hl [1, 2, 3, 4, 5, 0] rfl)
  have L81v0 : ∀ (x81v0_1 : Int32) (x81v0_3 : Int32) (q81v0_1 : Nat) (y81v0_1_0 : Int32) (y81v0_1_1 : Int32) (y81v0_1_2 : Int32) (μ81v0 : XS) (H : Heap) (locs : List Loc) (ls : Array Slot), fX9_improve_L81v0 K x81v0_1 x81v0_3 y81v0_1_0 y81v0_1_1 y81v0_1_2 μ81v0 = some (r, t', μ') → va_P D CL (XP d z b fl μ81v0 ++ [(o, .inr (9, [.ref q81v0_1, .int (μ81v0.1 90), .int (μ81v0.1 91), .ref (b 0)])), (q81v0_1, .inr (3, [.int y81v0_1_0, .int y81v0_1_1, .int y81v0_1_2]))]) H → va_D A (XP d z b fl μ81v0 ++ [(o, .inr (9, [.ref q81v0_1, .int (μ81v0.1 90), .int (μ81v0.1 91), .ref (b 0)])), (q81v0_1, .inr (3, [.int y81v0_1_0, .int y81v0_1_1, .int y81v0_1_2]))]) → va_S A s.heap H locs → lv_has ls 7 [(0, .ref o), (1, .int x81v0_1), (2, .ref q81v0_1), (3, .int x81v0_3), (4, .int (0 : Int32))] → W p l e (rmc 8 5 15 174) s m args below meth c H locs 1 3 Q (F0 m 81 ls []) := by
    intro x81v0_1 x81v0_3 q81v0_1 y81v0_1_0 y81v0_1_1 y81v0_1_2 μ81v0 H locs ls hf hP hD hS hl
    unfold fX9_improve_L81v0 at hf
    refine lv_iinc (v := (1 : Int32)) (lv' := [(4, .int (1 : Int32)), (0, .ref o), (1, .int x81v0_1), (2, .ref q81v0_1), (3, .int x81v0_3)]) hx hb dX9_improve_81 hl (k := 4) rfl rfl (by decide) rfl (fun ls hl => ?_)
    refine lv_goto (tgt := 13) hx hb dX9_improve_84 (by decide) ?_
    exact L13v1 x81v0_1 x81v0_3 q81v0_1 y81v0_1_0 y81v0_1_1 y81v0_1_2 μ81v0 _ _ _ hf hP hD hS (lv_sub hl [1, 2, 3, 4, 0] rfl)
  have L67v8 : ∀ (t67v8_0 : Int32) (x67v8_1 : Int32) (x67v8_3 : Int32) (q67v8_1 : Nat) (y67v8_1_0 : Int32) (y67v8_1_1 : Int32) (y67v8_1_2 : Int32) (q67v8_2 : Nat) (y67v8_2_0 : Int32) (y67v8_2_1 : Int32) (y67v8_2_2 : Int32) (q67v8_3 : Nat) (y67v8_3_0 : Int32) (y67v8_3_1 : Int32) (y67v8_3_2 : Int32) (μ67v8 : XS) (H : Heap) (locs : List Loc) (ls : Array Slot), fX9_improve_L67v8 K t67v8_0 x67v8_1 x67v8_3 y67v8_1_0 y67v8_1_1 y67v8_1_2 y67v8_2_0 y67v8_2_1 y67v8_2_2 y67v8_3_0 y67v8_3_1 y67v8_3_2 μ67v8 = some (r, t', μ') → va_P D CL (XP d z b fl μ67v8 ++ [(o, .inr (9, [.ref q67v8_1, .int (μ67v8.1 90), .int (μ67v8.1 91), .ref (b 0)])), (q67v8_1, .inr (3, [.int y67v8_1_0, .int y67v8_1_1, .int y67v8_1_2])), (q67v8_2, .inr (3, [.int y67v8_2_0, .int y67v8_2_1, .int y67v8_2_2])), (q67v8_3, .inr (3, [.int y67v8_3_0, .int y67v8_3_1, .int y67v8_3_2]))]) H → va_D A (XP d z b fl μ67v8 ++ [(o, .inr (9, [.ref q67v8_1, .int (μ67v8.1 90), .int (μ67v8.1 91), .ref (b 0)])), (q67v8_1, .inr (3, [.int y67v8_1_0, .int y67v8_1_1, .int y67v8_1_2])), (q67v8_2, .inr (3, [.int y67v8_2_0, .int y67v8_2_1, .int y67v8_2_2])), (q67v8_3, .inr (3, [.int y67v8_3_0, .int y67v8_3_1, .int y67v8_3_2]))]) → va_S A s.heap H locs → lv_has ls 7 [(0, .ref o), (1, .int x67v8_1), (2, .ref q67v8_2), (3, .int x67v8_3), (4, .int (1 : Int32)), (5, .ref q67v8_3)] → W p l e (rmc 8 5 15 174) s m args below meth c H locs 2 6 Q (F0 m 67 ls [.int t67v8_0]) := by
    intro t67v8_0 x67v8_1 x67v8_3 q67v8_1 y67v8_1_0 y67v8_1_1 y67v8_1_2 q67v8_2 y67v8_2_0 y67v8_2_1 y67v8_2_2 q67v8_3 y67v8_3_0 y67v8_3_1 y67v8_3_2 μ67v8 H locs ls hf hP hD hS hl
    unfold fX9_improve_L67v8 at hf
    refine lv_istore (lv' := [(6, .int t67v8_0), (0, .ref o), (1, .int x67v8_1), (2, .ref q67v8_2), (3, .int x67v8_3), (4, .int (1 : Int32)), (5, .ref q67v8_3)]) hx hb dX9_improve_67 hl (by decide) rfl (fun ls hl => ?_)
    refine lv_iload hx hb dX9_improve_69 (lv_at hl 0 rfl) ?_
    refine lv_iload_n hx hb dX9_improve_71 rfl (lv_at hl 4 rfl) ?_
    refine lv_icmp_ge (tgt := 81) hx hb dX9_improve_72 (by decide) (fun c_100 => ?_) (fun c_100 => ?_)
    · replace hf := it_t hf c_100
      clear c_100
      replace hP := hP.sub (ws' := XP d z b fl μ67v8 ++ [(o, .inr (9, [.ref q67v8_1, .int (μ67v8.1 90), .int (μ67v8.1 91), .ref (b 0)])), (q67v8_1, .inr (3, [.int y67v8_1_0, .int y67v8_1_1, .int y67v8_1_2])), (q67v8_2, .inr (3, [.int y67v8_2_0, .int y67v8_2_1, .int y67v8_2_2]))]) [0, 1, 2, 3, 4, 5, 6, 7, 8, 9, 10, 11, 12, 13, 14, 15, 16, 17, 18] rfl
      replace hD := hD.sub (ws' := XP d z b fl μ67v8 ++ [(o, .inr (9, [.ref q67v8_1, .int (μ67v8.1 90), .int (μ67v8.1 91), .ref (b 0)])), (q67v8_1, .inr (3, [.int y67v8_1_0, .int y67v8_1_1, .int y67v8_1_2])), (q67v8_2, .inr (3, [.int y67v8_2_0, .int y67v8_2_1, .int y67v8_2_2]))]) [0, 1, 2, 3, 4, 5, 6, 7, 8, 9, 10, 11, 12, 13, 14, 15, 16, 17, 18] (by decide) rfl
      exact L81v8 x67v8_1 x67v8_3 q67v8_1 y67v8_1_0 y67v8_1_1 y67v8_1_2 q67v8_2 y67v8_2_0 y67v8_2_1 y67v8_2_2 μ67v8 _ _ _ hf hP hD hS (lv_sub hl [1, 2, 3, 4, 5] rfl)
    · replace hf := it_f hf c_100
      clear c_100
      refine lv_aload hx hb dX9_improve_75 (lv_at hl 6 rfl) ?_
      refine lv_astore_n (lv' := [(2, .ref q67v8_3), (6, .int t67v8_0), (0, .ref o), (1, .int x67v8_1), (3, .int x67v8_3), (4, .int (1 : Int32)), (5, .ref q67v8_3)]) hx hb dX9_improve_77 rfl hl (by decide) rfl (fun ls hl => ?_)
      refine lv_iload hx hb dX9_improve_78 (lv_at hl 1 rfl) ?_
      refine lv_istore_n (lv' := [(3, .int t67v8_0), (2, .ref q67v8_3), (6, .int t67v8_0), (0, .ref o), (1, .int x67v8_1), (4, .int (1 : Int32)), (5, .ref q67v8_3)]) hx hb dX9_improve_80 rfl hl (by decide) rfl (fun ls hl => ?_)
      replace hP := hP.sub (ws' := XP d z b fl μ67v8 ++ [(o, .inr (9, [.ref q67v8_1, .int (μ67v8.1 90), .int (μ67v8.1 91), .ref (b 0)])), (q67v8_1, .inr (3, [.int y67v8_1_0, .int y67v8_1_1, .int y67v8_1_2])), (q67v8_3, .inr (3, [.int y67v8_3_0, .int y67v8_3_1, .int y67v8_3_2]))]) [0, 1, 2, 3, 4, 5, 6, 7, 8, 9, 10, 11, 12, 13, 14, 15, 16, 17, 19] rfl
      replace hD := hD.sub (ws' := XP d z b fl μ67v8 ++ [(o, .inr (9, [.ref q67v8_1, .int (μ67v8.1 90), .int (μ67v8.1 91), .ref (b 0)])), (q67v8_1, .inr (3, [.int y67v8_1_0, .int y67v8_1_1, .int y67v8_1_2])), (q67v8_3, .inr (3, [.int y67v8_3_0, .int y67v8_3_1, .int y67v8_3_2]))]) [0, 1, 2, 3, 4, 5, 6, 7, 8, 9, 10, 11, 12, 13, 14, 15, 16, 17, 19] (by decide) rfl
      exact L81v8 x67v8_1 t67v8_0 q67v8_1 y67v8_1_0 y67v8_1_1 y67v8_1_2 q67v8_3 y67v8_3_0 y67v8_3_1 y67v8_3_2 μ67v8 _ _ _ hf hP hD hS (lv_sub hl [3, 4, 1, 0, 5] rfl)
  have L13v10 : ∀ (x13v10_1 : Int32) (x13v10_3 : Int32) (q13v10_1 : Nat) (y13v10_1_0 : Int32) (y13v10_1_1 : Int32) (y13v10_1_2 : Int32) (q13v10_2 : Nat) (y13v10_2_0 : Int32) (y13v10_2_1 : Int32) (y13v10_2_2 : Int32) (μ13v10 : XS) (H : Heap) (locs : List Loc) (ls : Array Slot), fX9_improve_L13v10 K x13v10_1 x13v10_3 y13v10_1_0 y13v10_1_1 y13v10_1_2 y13v10_2_0 y13v10_2_1 y13v10_2_2 μ13v10 = some (r, t', μ') → va_P D CL (XP d z b fl μ13v10 ++ [(o, .inr (9, [.ref q13v10_1, .int (μ13v10.1 90), .int (μ13v10.1 91), .ref (b 0)])), (q13v10_1, .inr (3, [.int y13v10_1_0, .int y13v10_1_1, .int y13v10_1_2])), (q13v10_2, .inr (3, [.int y13v10_2_0, .int y13v10_2_1, .int y13v10_2_2]))]) H → va_D A (XP d z b fl μ13v10 ++ [(o, .inr (9, [.ref q13v10_1, .int (μ13v10.1 90), .int (μ13v10.1 91), .ref (b 0)])), (q13v10_1, .inr (3, [.int y13v10_1_0, .int y13v10_1_1, .int y13v10_1_2])), (q13v10_2, .inr (3, [.int y13v10_2_0, .int y13v10_2_1, .int y13v10_2_2]))]) → va_S A s.heap H locs → lv_has ls 7 [(0, .ref o), (1, .int x13v10_1), (2, .ref q13v10_2), (3, .int x13v10_3), (4, .int (1 : Int32))] → W p l e (rmc 8 5 15 174) s m args below meth c H locs 1 3 Q (F0 m 13 ls []) := by
    intro x13v10_1 x13v10_3 q13v10_1 y13v10_1_0 y13v10_1_1 y13v10_1_2 q13v10_2 y13v10_2_0 y13v10_2_1 y13v10_2_2 μ13v10 H locs ls hf hP hD hS hl
    unfold fX9_improve_L13v10 at hf
    refine lv_iload hx hb dX9_improve_13 (lv_at hl 4 rfl) ?_
    refine lv_aload_n hx hb dX9_improve_15 rfl (lv_at hl 0 rfl) ?_
    refine g_get hx hb hts S.2.2.2.1 hK hP in_X9 16 rfl rfl 3 (by decide) q1279 (fun _ h9 => h9) (v := .ref (b 0)) rfl dX9_improve_16 ?_
    refine g_getN hx hb hts S.2.2.2.1 hK hP in_X0 0 rfl rfl 4 (by decide) q284 (fun _ h9 => h9) (v := .ref (b 3)) rfl dX9_improve_19 ?_
    refine g_len hx hb hK hP 3 6 rfl rfl (v := 5) rfl dX9_improve_22 ?_
    refine lv_icmp_ge (tgt := 87) hx hb dX9_improve_23 (by decide) (fun hc => absurd hc (by decide)) (fun hc => ?_)
    clear hc
    refine lv_aload_n hx hb dX9_improve_26 rfl (lv_at hl 0 rfl) ?_
    refine g_get hx hb hts S.2.2.2.1 hK hP in_X9 16 rfl rfl 3 (by decide) q1279 (fun _ h9 => h9) (v := .ref (b 0)) rfl dX9_improve_27 ?_
    refine g_getN hx hb hts S.2.2.2.1 hK hP in_X0 0 rfl rfl 4 (by decide) q284 (fun _ h9 => h9) (v := .ref (b 3)) rfl dX9_improve_30 ?_
    refine lv_iload hx hb dX9_improve_33 (lv_at hl 4 rfl) ?_
    refine g_aald hx hb hK hP 3 6 rfl rfl (ix_in (by decide)) dX9_improve_35 ?_
    refine lv_aload_n hx hb dX9_improve_36 rfl (lv_at hl 0 rfl) ?_
    refine g_get hx hb hts S.2.2.2.1 hK hP in_X9 16 rfl rfl 0 (by decide) q1273 (fun _ h9 => h9) (v := .ref q13v10_1) rfl dX9_improve_37 ?_
    refine lv_iload_n hx hb dX9_improve_40 rfl (lv_at hl 1 rfl) ?_
    obtain ⟨r_94, h_95, hf⟩ := b1_some hf
    refine run5_rS0 (wr := [(b 0, .inr (1, [.ref (b 1), .int (μ13v10.1 1), .int (μ13v10.1 2), .ref (b 2), .ref (b 3), .ref (b 4), va_rf fl, .ref (b 7), .ref (b 13), .ref (b 16), .int (μ13v10.1 10)])), (b 1, .inl (d 2, 500, .inl (μ13v10.2.2.1 1))), (b 2, .inl (d 5, 2, .inr (.inr (.inr (.inr (fun j => some (z.2.2 j))))))), (b 3, .inl (d 6, 5, .inr (.inr (.inr (.inr (fun j => some (z.2.2 (2 + j)))))))), (b 4, .inr (4, [.int (μ13v10.1 20), .long (μ13v10.2.1 21), .long (μ13v10.2.1 22), .long (μ13v10.2.1 23), .ref (b 5), .ref (b 6), .ref (b 0)])), (b 5, .inr (2, [.long (μ13v10.2.1 30), .long (μ13v10.2.1 31)])), (b 6, .inr (2, [.long (μ13v10.2.1 32), .long (μ13v10.2.1 33)])), (b 7, .inr (6, [.int (μ13v10.1 40), .int (μ13v10.1 41), .int (μ13v10.1 42), .int (μ13v10.1 43), .int (μ13v10.1 44), .int (μ13v10.1 45), .ref (b 8), .ref (b 9), .ref (b 10), .int (μ13v10.1 49), .ref (b 11), .ref (b 12), .int (μ13v10.1 52)])), (b 8, .inl (d 0, 16, .inl (μ13v10.2.2.1 46))), (b 9, .inl (d 1, 16, .inr (.inl (μ13v10.2.2.2.1 47)))), (b 10, .inl (d 1, 16, .inr (.inl (μ13v10.2.2.2.1 48)))), (b 11, .inl (d 0, 8, .inl (μ13v10.2.2.1 50))), (b 12, .inl (d 0, 8, .inl (μ13v10.2.2.1 51))), (b 13, .inr (8, [.int (μ13v10.1 60), .int (μ13v10.1 61), .int (μ13v10.1 62), .int (μ13v10.1 63), .ref (b 14), .ref (b 15), .int (μ13v10.1 66), .ref (b 17)])), (b 14, .inl (d 0, 100, .inl (μ13v10.2.2.1 64))), (b 15, .inl (d 3, 100, .inl (μ13v10.2.2.1 65))), (o, .inr (9, [.ref q13v10_1, .int (μ13v10.1 90), .int (μ13v10.1 91), .ref (b 0)])), (q13v10_2, .inr (3, [.int y13v10_2_0, .int y13v10_2_1, .int y13v10_2_2]))]) (w' := fun u => XP d z b fl μ13v10 ++ [(o, .inr (9, [.ref q13v10_1, .int (μ13v10.1 90), .int (μ13v10.1 91), .ref (b 0)])), (q13v10_1, .inr (3, [.int y13v10_1_0, .int y13v10_1_1, .int y13v10_1_2])), (q13v10_2, .inr (3, [.int y13v10_2_0, .int y13v10_2_1, .int y13v10_2_2])), (u, .inr (3, [.int r_94.1, .int r_94.2.1, .int r_94.2.2]))]) (lam_run (As := [.ref q13v10_1, .int x13v10_1]) (rest := []) (j := 3) S (by decide) (hZ.2.2.2.2.2.2.1 3 (by decide)) hS (tX0_lambda_new_1 l D d z K q13v10_1 (y13v10_1_0, y13v10_1_1, y13v10_1_2) x13v10_1 r_94 h_95 _) q1264 q200 q94 q201 rfl rfl ⟨(Nat.le_of_ble_eq_true rfl), (Nat.le_of_ble_eq_true rfl)⟩ ⟨Pw.blind, fun U hU hW => Pw.cut (tl := []) hK (by rw [List.append_nil]; exact hP) (by rw [List.append_nil]; exact hD) hZ hS hA [17] rfl rfl hU hW⟩ rfl (by rw [if_neg (by decide)]; exact ⟨_, _, rfl⟩) hl.1 rfl (lv_room (Nat.le_of_ble_eq_true rfl)) dX9_improve_41 ⟨(Nat.le_of_ble_eq_true rfl), (Nat.le_of_ble_eq_true rfl)⟩ (lam_hvR (by decide))) hP hD hS hA [17] [0, 1, 2, 3, 4, 5, 6, 7, 8, 9, 10, 11, 12, 13, 14, 15, 16, 18] [0, 1, 2, 3, 4, 5, 6, 7, 8, 9, 10, 11, 12, 13, 14, 15, 16, 18, 17, 19] rfl rfl rfl rfl (by decide) rfl (fun _ => rfl) ?_
    clear hP hD hS
    intro q_96 _ H locs hP hD hS
    clear h_95
    refine lv_astore (lv' := [(5, .ref q_96), (0, .ref o), (1, .int x13v10_1), (2, .ref q13v10_2), (3, .int x13v10_3), (4, .int (1 : Int32))]) hx hb dX9_improve_46 hl (by decide) rfl (fun ls hl => ?_)
    refine lv_aload hx hb dX9_improve_48 (lv_at hl 0 rfl) ?_
    obtain ⟨r_98, h_97, hf⟩ := b1_some hf
    refine run_i0 (wr := [(b 0, .inr (1, [.ref (b 1), .int (μ13v10.1 1), .int (μ13v10.1 2), .ref (b 2), .ref (b 3), .ref (b 4), va_rf fl, .ref (b 7), .ref (b 13), .ref (b 16), .int (μ13v10.1 10)])), (b 1, .inl (d 2, 500, .inl (μ13v10.2.2.1 1))), (b 2, .inl (d 5, 2, .inr (.inr (.inr (.inr (fun j => some (z.2.2 j))))))), (b 3, .inl (d 6, 5, .inr (.inr (.inr (.inr (fun j => some (z.2.2 (2 + j)))))))), (b 4, .inr (4, [.int (μ13v10.1 20), .long (μ13v10.2.1 21), .long (μ13v10.2.1 22), .long (μ13v10.2.1 23), .ref (b 5), .ref (b 6), .ref (b 0)])), (b 5, .inr (2, [.long (μ13v10.2.1 30), .long (μ13v10.2.1 31)])), (b 6, .inr (2, [.long (μ13v10.2.1 32), .long (μ13v10.2.1 33)])), (b 7, .inr (6, [.int (μ13v10.1 40), .int (μ13v10.1 41), .int (μ13v10.1 42), .int (μ13v10.1 43), .int (μ13v10.1 44), .int (μ13v10.1 45), .ref (b 8), .ref (b 9), .ref (b 10), .int (μ13v10.1 49), .ref (b 11), .ref (b 12), .int (μ13v10.1 52)])), (b 8, .inl (d 0, 16, .inl (μ13v10.2.2.1 46))), (b 9, .inl (d 1, 16, .inr (.inl (μ13v10.2.2.2.1 47)))), (b 10, .inl (d 1, 16, .inr (.inl (μ13v10.2.2.2.1 48)))), (b 11, .inl (d 0, 8, .inl (μ13v10.2.2.1 50))), (b 12, .inl (d 0, 8, .inl (μ13v10.2.2.1 51))), (b 13, .inr (8, [.int (μ13v10.1 60), .int (μ13v10.1 61), .int (μ13v10.1 62), .int (μ13v10.1 63), .ref (b 14), .ref (b 15), .int (μ13v10.1 66), .ref (b 17)])), (b 14, .inl (d 0, 100, .inl (μ13v10.2.2.1 64))), (b 15, .inl (d 3, 100, .inl (μ13v10.2.2.1 65))), (o, .inr (9, [.ref q13v10_1, .int (μ13v10.1 90), .int (μ13v10.1 91), .ref (b 0)])), (q13v10_1, .inr (3, [.int y13v10_1_0, .int y13v10_1_1, .int y13v10_1_2])), (q13v10_2, .inr (3, [.int y13v10_2_0, .int y13v10_2_1, .int y13v10_2_2]))]) (w' := XP d z b fl μ13v10 ++ [(o, .inr (9, [.ref q13v10_1, .int (μ13v10.1 90), .int (μ13v10.1 91), .ref (b 0)])), (q13v10_1, .inr (3, [.int y13v10_1_0, .int y13v10_1_1, .int y13v10_1_2])), (q13v10_2, .inr (3, [.int y13v10_2_0, .int y13v10_2_1, .int y13v10_2_2])), (q_96, .inr (3, [.int r_94.1, .int r_94.2.1, .int r_94.2.2]))]) (va_runV (As := []) (rest := []) S (tX2_isPossibleq l D d z q_96 K (r_94.1, r_94.2.1, r_94.2.2) r_98 h_97 _) (cwV 0 hts (lw_V q1267 q1268 q1269 q97 q1270) rfl rfl rfl (by decide +kernel) ⟨(Nat.le_of_ble_eq_true rfl), (Nat.le_of_ble_eq_true rfl)⟩) ⟨Pw.blind, (va_recv hK.1 hP (ci := 3) (q0 := 19) rfl rfl), fun U hU hW => Pw.cut (tl := []) hK (by rw [List.append_nil]; exact hP) (by rw [List.append_nil]; exact hD) hZ hS hA [19] rfl rfl hU hW⟩ rfl rfl hl.1 rfl (lv_room (Nat.le_of_ble_eq_true rfl)) dX9_improve_50 ⟨(Nat.le_of_ble_eq_true rfl), (Nat.le_of_ble_eq_true rfl)⟩) hP hD hS hA [19] [0, 1, 2, 3, 4, 5, 6, 7, 8, 9, 10, 11, 12, 13, 14, 15, 16, 17, 18] [0, 1, 2, 3, 4, 5, 6, 7, 8, 9, 10, 11, 12, 13, 14, 15, 16, 17, 18, 19] rfl rfl rfl rfl (by decide) rfl rfl ?_
    clear hP hD hS
    intro H locs hP hD hS
    clear h_97
    refine lv_if_eq (tgt := 65) hx hb dX9_improve_53 (by decide) (fun c_99 => ?_) (fun c_99 => ?_)
    · replace hf := it_f hf (bi_e0 c_99)
      clear c_99
      refine lv_ldc hx hb S.2.2.2.1 (hts _ q1272) dX9_improve_65 ?_
      exact L67v8 (99999 : Int32) x13v10_1 x13v10_3 q13v10_1 y13v10_1_0 y13v10_1_1 y13v10_1_2 q13v10_2 y13v10_2_0 y13v10_2_1 y13v10_2_2 q_96 r_94.1 r_94.2.1 r_94.2.2 μ13v10 _ _ _ hf hP hD hS (lv_sub hl [1, 2, 3, 4, 5, 0] rfl)
    · replace hf := it_t hf (bi_n0 c_99)
      clear c_99
      refine lv_aload_n hx hb dX9_improve_56 rfl (lv_at hl 1 rfl) ?_
      refine lv_aload hx hb dX9_improve_57 (lv_at hl 0 rfl) ?_
      obtain ⟨r_103, ξ_102, h_101, hf⟩ := b2_some hf
      refine run_i0 (wr := [(q13v10_1, .inr (3, [.int y13v10_1_0, .int y13v10_1_1, .int y13v10_1_2])), (q13v10_2, .inr (3, [.int y13v10_2_0, .int y13v10_2_1, .int y13v10_2_2]))]) (w' := XP d z b fl ξ_102 ++ [(o, .inr (9, [.ref q13v10_1, .int (ξ_102.1 90), .int (ξ_102.1 91), .ref (b 0)])), (q13v10_1, .inr (3, [.int y13v10_1_0, .int y13v10_1_1, .int y13v10_1_2])), (q13v10_2, .inr (3, [.int y13v10_2_0, .int y13v10_2_1, .int y13v10_2_2])), (q_96, .inr (3, [.int r_94.1, .int r_94.2.1, .int r_94.2.2]))]) (va_runV (As := [.ref q_96]) (rest := []) S (tX9_evaluate l D d z b fl K o q13v10_1 q_96 (r_94.1, r_94.2.1, r_94.2.2) μ13v10 r_103 ξ_102 h_101 _) (cwV 1 hts (lw_V q1253 q1255 qs36 q121 q1256) rfl rfl rfl (by decide +kernel) ⟨(Nat.le_of_ble_eq_true rfl), (Nat.le_of_ble_eq_true rfl)⟩) ⟨Pw.blind, (va_recv hK.1 hP (ci := 9) (q0 := 16) rfl rfl), fun U hU hW => Pw.cut (tl := []) hK (by rw [List.append_nil]; exact hP) (by rw [List.append_nil]; exact hD) hZ hS hA [0, 1, 2, 3, 4, 5, 6, 7, 8, 9, 10, 11, 12, 13, 14, 15, 16, 19] rfl rfl hU hW⟩ rfl rfl hl.1 rfl (lv_room (Nat.le_of_ble_eq_true rfl)) dX9_improve_59 ⟨(Nat.le_of_ble_eq_true rfl), (Nat.le_of_ble_eq_true rfl)⟩) hP hD hS hA [0, 1, 2, 3, 4, 5, 6, 7, 8, 9, 10, 11, 12, 13, 14, 15, 16, 19] [17, 18] [2, 3, 4, 5, 6, 7, 8, 9, 10, 11, 12, 13, 14, 15, 16, 17, 18, 0, 1, 19] rfl rfl rfl rfl (by decide) rfl rfl ?_
      clear hP hD hS
      intro H locs hP hD hS
      clear h_101
      refine lv_goto (tgt := 67) hx hb dX9_improve_62 (by decide) ?_
      exact L67v8 r_103 x13v10_1 x13v10_3 q13v10_1 y13v10_1_0 y13v10_1_1 y13v10_1_2 q13v10_2 y13v10_2_0 y13v10_2_1 y13v10_2_2 q_96 r_94.1 r_94.2.1 r_94.2.2 ξ_102 _ _ _ hf hP hD hS (lv_sub hl [1, 2, 3, 4, 5, 0] rfl)
  have L81v9 : ∀ (x81v9_1 : Int32) (x81v9_3 : Int32) (q81v9_1 : Nat) (y81v9_1_0 : Int32) (y81v9_1_1 : Int32) (y81v9_1_2 : Int32) (q81v9_2 : Nat) (y81v9_2_0 : Int32) (y81v9_2_1 : Int32) (y81v9_2_2 : Int32) (μ81v9 : XS) (H : Heap) (locs : List Loc) (ls : Array Slot), fX9_improve_L81v9 K x81v9_1 x81v9_3 y81v9_1_0 y81v9_1_1 y81v9_1_2 y81v9_2_0 y81v9_2_1 y81v9_2_2 μ81v9 = some (r, t', μ') → va_P D CL (XP d z b fl μ81v9 ++ [(o, .inr (9, [.ref q81v9_1, .int (μ81v9.1 90), .int (μ81v9.1 91), .ref (b 0)])), (q81v9_1, .inr (3, [.int y81v9_1_0, .int y81v9_1_1, .int y81v9_1_2])), (q81v9_2, .inr (3, [.int y81v9_2_0, .int y81v9_2_1, .int y81v9_2_2]))]) H → va_D A (XP d z b fl μ81v9 ++ [(o, .inr (9, [.ref q81v9_1, .int (μ81v9.1 90), .int (μ81v9.1 91), .ref (b 0)])), (q81v9_1, .inr (3, [.int y81v9_1_0, .int y81v9_1_1, .int y81v9_1_2])), (q81v9_2, .inr (3, [.int y81v9_2_0, .int y81v9_2_1, .int y81v9_2_2]))]) → va_S A s.heap H locs → lv_has ls 7 [(0, .ref o), (1, .int x81v9_1), (2, .ref q81v9_2), (3, .int x81v9_3), (4, .int (0 : Int32))] → W p l e (rmc 8 5 15 174) s m args below meth c H locs 1 3 Q (F0 m 81 ls []) := by
    intro x81v9_1 x81v9_3 q81v9_1 y81v9_1_0 y81v9_1_1 y81v9_1_2 q81v9_2 y81v9_2_0 y81v9_2_1 y81v9_2_2 μ81v9 H locs ls hf hP hD hS hl
    unfold fX9_improve_L81v9 at hf
    refine lv_iinc (v := (1 : Int32)) (lv' := [(4, .int (1 : Int32)), (0, .ref o), (1, .int x81v9_1), (2, .ref q81v9_2), (3, .int x81v9_3)]) hx hb dX9_improve_81 hl (k := 4) rfl rfl (by decide) rfl (fun ls hl => ?_)
    refine lv_goto (tgt := 13) hx hb dX9_improve_84 (by decide) ?_
    exact L13v10 x81v9_1 x81v9_3 q81v9_1 y81v9_1_0 y81v9_1_1 y81v9_1_2 q81v9_2 y81v9_2_0 y81v9_2_1 y81v9_2_2 μ81v9 _ _ _ hf hP hD hS (lv_sub hl [1, 2, 3, 4, 0] rfl)
  have L67v0 : ∀ (t67v0_0 : Int32) (x67v0_1 : Int32) (x67v0_3 : Int32) (q67v0_1 : Nat) (y67v0_1_0 : Int32) (y67v0_1_1 : Int32) (y67v0_1_2 : Int32) (q67v0_2 : Nat) (y67v0_2_0 : Int32) (y67v0_2_1 : Int32) (y67v0_2_2 : Int32) (μ67v0 : XS) (H : Heap) (locs : List Loc) (ls : Array Slot), fX9_improve_L67v0 K t67v0_0 x67v0_1 x67v0_3 y67v0_1_0 y67v0_1_1 y67v0_1_2 y67v0_2_0 y67v0_2_1 y67v0_2_2 μ67v0 = some (r, t', μ') → va_P D CL (XP d z b fl μ67v0 ++ [(o, .inr (9, [.ref q67v0_1, .int (μ67v0.1 90), .int (μ67v0.1 91), .ref (b 0)])), (q67v0_1, .inr (3, [.int y67v0_1_0, .int y67v0_1_1, .int y67v0_1_2])), (q67v0_2, .inr (3, [.int y67v0_2_0, .int y67v0_2_1, .int y67v0_2_2]))]) H → va_D A (XP d z b fl μ67v0 ++ [(o, .inr (9, [.ref q67v0_1, .int (μ67v0.1 90), .int (μ67v0.1 91), .ref (b 0)])), (q67v0_1, .inr (3, [.int y67v0_1_0, .int y67v0_1_1, .int y67v0_1_2])), (q67v0_2, .inr (3, [.int y67v0_2_0, .int y67v0_2_1, .int y67v0_2_2]))]) → va_S A s.heap H locs → lv_has ls 7 [(0, .ref o), (1, .int x67v0_1), (2, .ref q67v0_1), (3, .int x67v0_3), (4, .int (0 : Int32)), (5, .ref q67v0_2)] → W p l e (rmc 8 5 15 174) s m args below meth c H locs 1 3 Q (F0 m 67 ls [.int t67v0_0]) := by
    intro t67v0_0 x67v0_1 x67v0_3 q67v0_1 y67v0_1_0 y67v0_1_1 y67v0_1_2 q67v0_2 y67v0_2_0 y67v0_2_1 y67v0_2_2 μ67v0 H locs ls hf hP hD hS hl
    unfold fX9_improve_L67v0 at hf
    refine lv_istore (lv' := [(6, .int t67v0_0), (0, .ref o), (1, .int x67v0_1), (2, .ref q67v0_1), (3, .int x67v0_3), (4, .int (0 : Int32)), (5, .ref q67v0_2)]) hx hb dX9_improve_67 hl (by decide) rfl (fun ls hl => ?_)
    refine lv_iload hx hb dX9_improve_69 (lv_at hl 0 rfl) ?_
    refine lv_iload_n hx hb dX9_improve_71 rfl (lv_at hl 4 rfl) ?_
    refine lv_icmp_ge (tgt := 81) hx hb dX9_improve_72 (by decide) (fun c_9 => ?_) (fun c_9 => ?_)
    · replace hf := it_t hf c_9
      clear c_9
      replace hP := hP.sub (ws' := XP d z b fl μ67v0 ++ [(o, .inr (9, [.ref q67v0_1, .int (μ67v0.1 90), .int (μ67v0.1 91), .ref (b 0)])), (q67v0_1, .inr (3, [.int y67v0_1_0, .int y67v0_1_1, .int y67v0_1_2]))]) [0, 1, 2, 3, 4, 5, 6, 7, 8, 9, 10, 11, 12, 13, 14, 15, 16, 17] rfl
      replace hD := hD.sub (ws' := XP d z b fl μ67v0 ++ [(o, .inr (9, [.ref q67v0_1, .int (μ67v0.1 90), .int (μ67v0.1 91), .ref (b 0)])), (q67v0_1, .inr (3, [.int y67v0_1_0, .int y67v0_1_1, .int y67v0_1_2]))]) [0, 1, 2, 3, 4, 5, 6, 7, 8, 9, 10, 11, 12, 13, 14, 15, 16, 17] (by decide) rfl
      exact L81v0 x67v0_1 x67v0_3 q67v0_1 y67v0_1_0 y67v0_1_1 y67v0_1_2 μ67v0 _ _ _ hf hP hD hS (lv_sub hl [1, 2, 3, 4, 5] rfl)
    · replace hf := it_f hf c_9
      clear c_9
      refine lv_aload hx hb dX9_improve_75 (lv_at hl 6 rfl) ?_
      refine lv_astore_n (lv' := [(2, .ref q67v0_2), (6, .int t67v0_0), (0, .ref o), (1, .int x67v0_1), (3, .int x67v0_3), (4, .int (0 : Int32)), (5, .ref q67v0_2)]) hx hb dX9_improve_77 rfl hl (by decide) rfl (fun ls hl => ?_)
      refine lv_iload hx hb dX9_improve_78 (lv_at hl 1 rfl) ?_
      refine lv_istore_n (lv' := [(3, .int t67v0_0), (2, .ref q67v0_2), (6, .int t67v0_0), (0, .ref o), (1, .int x67v0_1), (4, .int (0 : Int32)), (5, .ref q67v0_2)]) hx hb dX9_improve_80 rfl hl (by decide) rfl (fun ls hl => ?_)
      exact L81v9 x67v0_1 t67v0_0 q67v0_1 y67v0_1_0 y67v0_1_1 y67v0_1_2 q67v0_2 y67v0_2_0 y67v0_2_1 y67v0_2_2 μ67v0 _ _ _ hf hP hD hS (lv_sub hl [3, 4, 1, 0, 5] rfl)
  have L13v0 : ∀ (x13v0_1 : Int32) (x13v0_3 : Int32) (q13v0_1 : Nat) (y13v0_1_0 : Int32) (y13v0_1_1 : Int32) (y13v0_1_2 : Int32) (μ13v0 : XS) (H : Heap) (locs : List Loc) (ls : Array Slot), fX9_improve_L13v0 K x13v0_1 x13v0_3 y13v0_1_0 y13v0_1_1 y13v0_1_2 μ13v0 = some (r, t', μ') → va_P D CL (XP d z b fl μ13v0 ++ [(o, .inr (9, [.ref q13v0_1, .int (μ13v0.1 90), .int (μ13v0.1 91), .ref (b 0)])), (q13v0_1, .inr (3, [.int y13v0_1_0, .int y13v0_1_1, .int y13v0_1_2]))]) H → va_D A (XP d z b fl μ13v0 ++ [(o, .inr (9, [.ref q13v0_1, .int (μ13v0.1 90), .int (μ13v0.1 91), .ref (b 0)])), (q13v0_1, .inr (3, [.int y13v0_1_0, .int y13v0_1_1, .int y13v0_1_2]))]) → va_S A s.heap H locs → lv_has ls 7 [(0, .ref o), (1, .int x13v0_1), (2, .ref q13v0_1), (3, .int x13v0_3), (4, .int (0 : Int32))] → W p l e (rmc 8 5 15 174) s m args below meth c H locs 0 0 Q (F0 m 13 ls []) := by
    intro x13v0_1 x13v0_3 q13v0_1 y13v0_1_0 y13v0_1_1 y13v0_1_2 μ13v0 H locs ls hf hP hD hS hl
    unfold fX9_improve_L13v0 at hf
    refine lv_iload hx hb dX9_improve_13 (lv_at hl 4 rfl) ?_
    refine lv_aload_n hx hb dX9_improve_15 rfl (lv_at hl 0 rfl) ?_
    refine g_get hx hb hts S.2.2.2.1 hK hP in_X9 16 rfl rfl 3 (by decide) q1279 (fun _ h9 => h9) (v := .ref (b 0)) rfl dX9_improve_16 ?_
    refine g_getN hx hb hts S.2.2.2.1 hK hP in_X0 0 rfl rfl 4 (by decide) q284 (fun _ h9 => h9) (v := .ref (b 3)) rfl dX9_improve_19 ?_
    refine g_len hx hb hK hP 3 6 rfl rfl (v := 5) rfl dX9_improve_22 ?_
    refine lv_icmp_ge (tgt := 87) hx hb dX9_improve_23 (by decide) (fun hc => absurd hc (by decide)) (fun hc => ?_)
    clear hc
    refine lv_aload_n hx hb dX9_improve_26 rfl (lv_at hl 0 rfl) ?_
    refine g_get hx hb hts S.2.2.2.1 hK hP in_X9 16 rfl rfl 3 (by decide) q1279 (fun _ h9 => h9) (v := .ref (b 0)) rfl dX9_improve_27 ?_
    refine g_getN hx hb hts S.2.2.2.1 hK hP in_X0 0 rfl rfl 4 (by decide) q284 (fun _ h9 => h9) (v := .ref (b 3)) rfl dX9_improve_30 ?_
    refine lv_iload hx hb dX9_improve_33 (lv_at hl 4 rfl) ?_
    refine g_aald hx hb hK hP 3 6 rfl rfl (ix_in (by decide)) dX9_improve_35 ?_
    refine lv_aload_n hx hb dX9_improve_36 rfl (lv_at hl 0 rfl) ?_
    refine g_get hx hb hts S.2.2.2.1 hK hP in_X9 16 rfl rfl 0 (by decide) q1273 (fun _ h9 => h9) (v := .ref q13v0_1) rfl dX9_improve_37 ?_
    refine lv_iload_n hx hb dX9_improve_40 rfl (lv_at hl 1 rfl) ?_
    obtain ⟨r_3, h_4, hf⟩ := b1_some hf
    refine run5_rS0 (wr := [(b 0, .inr (1, [.ref (b 1), .int (μ13v0.1 1), .int (μ13v0.1 2), .ref (b 2), .ref (b 3), .ref (b 4), va_rf fl, .ref (b 7), .ref (b 13), .ref (b 16), .int (μ13v0.1 10)])), (b 1, .inl (d 2, 500, .inl (μ13v0.2.2.1 1))), (b 2, .inl (d 5, 2, .inr (.inr (.inr (.inr (fun j => some (z.2.2 j))))))), (b 3, .inl (d 6, 5, .inr (.inr (.inr (.inr (fun j => some (z.2.2 (2 + j)))))))), (b 4, .inr (4, [.int (μ13v0.1 20), .long (μ13v0.2.1 21), .long (μ13v0.2.1 22), .long (μ13v0.2.1 23), .ref (b 5), .ref (b 6), .ref (b 0)])), (b 5, .inr (2, [.long (μ13v0.2.1 30), .long (μ13v0.2.1 31)])), (b 6, .inr (2, [.long (μ13v0.2.1 32), .long (μ13v0.2.1 33)])), (b 7, .inr (6, [.int (μ13v0.1 40), .int (μ13v0.1 41), .int (μ13v0.1 42), .int (μ13v0.1 43), .int (μ13v0.1 44), .int (μ13v0.1 45), .ref (b 8), .ref (b 9), .ref (b 10), .int (μ13v0.1 49), .ref (b 11), .ref (b 12), .int (μ13v0.1 52)])), (b 8, .inl (d 0, 16, .inl (μ13v0.2.2.1 46))), (b 9, .inl (d 1, 16, .inr (.inl (μ13v0.2.2.2.1 47)))), (b 10, .inl (d 1, 16, .inr (.inl (μ13v0.2.2.2.1 48)))), (b 11, .inl (d 0, 8, .inl (μ13v0.2.2.1 50))), (b 12, .inl (d 0, 8, .inl (μ13v0.2.2.1 51))), (b 13, .inr (8, [.int (μ13v0.1 60), .int (μ13v0.1 61), .int (μ13v0.1 62), .int (μ13v0.1 63), .ref (b 14), .ref (b 15), .int (μ13v0.1 66), .ref (b 17)])), (b 14, .inl (d 0, 100, .inl (μ13v0.2.2.1 64))), (b 15, .inl (d 3, 100, .inl (μ13v0.2.2.1 65))), (o, .inr (9, [.ref q13v0_1, .int (μ13v0.1 90), .int (μ13v0.1 91), .ref (b 0)]))]) (w' := fun u => XP d z b fl μ13v0 ++ [(o, .inr (9, [.ref q13v0_1, .int (μ13v0.1 90), .int (μ13v0.1 91), .ref (b 0)])), (q13v0_1, .inr (3, [.int y13v0_1_0, .int y13v0_1_1, .int y13v0_1_2])), (u, .inr (3, [.int r_3.1, .int r_3.2.1, .int r_3.2.2]))]) (lam_run (As := [.ref q13v0_1, .int x13v0_1]) (rest := []) (j := 2) S (by decide) (hZ.2.2.2.2.2.2.1 2 (by decide)) hS (tX0_lambda_new_0 l D d z K q13v0_1 (y13v0_1_0, y13v0_1_1, y13v0_1_2) x13v0_1 r_3 h_4 _) q1264 q176 q94 q177 rfl rfl ⟨(Nat.le_of_ble_eq_true rfl), (Nat.le_of_ble_eq_true rfl)⟩ ⟨Pw.blind, fun U hU hW => Pw.cut (tl := []) hK (by rw [List.append_nil]; exact hP) (by rw [List.append_nil]; exact hD) hZ hS hA [17] rfl rfl hU hW⟩ rfl (by rw [if_neg (by decide)]; exact ⟨_, _, rfl⟩) hl.1 rfl (lv_room (Nat.le_of_ble_eq_true rfl)) dX9_improve_41 ⟨(Nat.le_of_ble_eq_true rfl), (Nat.le_of_ble_eq_true rfl)⟩ (lam_hvR (by decide))) hP hD hS hA [17] [0, 1, 2, 3, 4, 5, 6, 7, 8, 9, 10, 11, 12, 13, 14, 15, 16] [0, 1, 2, 3, 4, 5, 6, 7, 8, 9, 10, 11, 12, 13, 14, 15, 16, 17, 18] rfl rfl rfl rfl (by decide) rfl (fun _ => rfl) ?_
    clear hP hD hS
    intro q_5 _ H locs hP hD hS
    clear h_4
    refine lv_astore (lv' := [(5, .ref q_5), (0, .ref o), (1, .int x13v0_1), (2, .ref q13v0_1), (3, .int x13v0_3), (4, .int (0 : Int32))]) hx hb dX9_improve_46 hl (by decide) rfl (fun ls hl => ?_)
    refine lv_aload hx hb dX9_improve_48 (lv_at hl 0 rfl) ?_
    obtain ⟨r_7, h_6, hf⟩ := b1_some hf
    refine run_i0 (wr := [(b 0, .inr (1, [.ref (b 1), .int (μ13v0.1 1), .int (μ13v0.1 2), .ref (b 2), .ref (b 3), .ref (b 4), va_rf fl, .ref (b 7), .ref (b 13), .ref (b 16), .int (μ13v0.1 10)])), (b 1, .inl (d 2, 500, .inl (μ13v0.2.2.1 1))), (b 2, .inl (d 5, 2, .inr (.inr (.inr (.inr (fun j => some (z.2.2 j))))))), (b 3, .inl (d 6, 5, .inr (.inr (.inr (.inr (fun j => some (z.2.2 (2 + j)))))))), (b 4, .inr (4, [.int (μ13v0.1 20), .long (μ13v0.2.1 21), .long (μ13v0.2.1 22), .long (μ13v0.2.1 23), .ref (b 5), .ref (b 6), .ref (b 0)])), (b 5, .inr (2, [.long (μ13v0.2.1 30), .long (μ13v0.2.1 31)])), (b 6, .inr (2, [.long (μ13v0.2.1 32), .long (μ13v0.2.1 33)])), (b 7, .inr (6, [.int (μ13v0.1 40), .int (μ13v0.1 41), .int (μ13v0.1 42), .int (μ13v0.1 43), .int (μ13v0.1 44), .int (μ13v0.1 45), .ref (b 8), .ref (b 9), .ref (b 10), .int (μ13v0.1 49), .ref (b 11), .ref (b 12), .int (μ13v0.1 52)])), (b 8, .inl (d 0, 16, .inl (μ13v0.2.2.1 46))), (b 9, .inl (d 1, 16, .inr (.inl (μ13v0.2.2.2.1 47)))), (b 10, .inl (d 1, 16, .inr (.inl (μ13v0.2.2.2.1 48)))), (b 11, .inl (d 0, 8, .inl (μ13v0.2.2.1 50))), (b 12, .inl (d 0, 8, .inl (μ13v0.2.2.1 51))), (b 13, .inr (8, [.int (μ13v0.1 60), .int (μ13v0.1 61), .int (μ13v0.1 62), .int (μ13v0.1 63), .ref (b 14), .ref (b 15), .int (μ13v0.1 66), .ref (b 17)])), (b 14, .inl (d 0, 100, .inl (μ13v0.2.2.1 64))), (b 15, .inl (d 3, 100, .inl (μ13v0.2.2.1 65))), (o, .inr (9, [.ref q13v0_1, .int (μ13v0.1 90), .int (μ13v0.1 91), .ref (b 0)])), (q13v0_1, .inr (3, [.int y13v0_1_0, .int y13v0_1_1, .int y13v0_1_2]))]) (w' := XP d z b fl μ13v0 ++ [(o, .inr (9, [.ref q13v0_1, .int (μ13v0.1 90), .int (μ13v0.1 91), .ref (b 0)])), (q13v0_1, .inr (3, [.int y13v0_1_0, .int y13v0_1_1, .int y13v0_1_2])), (q_5, .inr (3, [.int r_3.1, .int r_3.2.1, .int r_3.2.2]))]) (va_runV (As := []) (rest := []) S (tX2_isPossibleq l D d z q_5 K (r_3.1, r_3.2.1, r_3.2.2) r_7 h_6 _) (cwV 0 hts (lw_V q1267 q1268 q1269 q97 q1270) rfl rfl rfl (by decide +kernel) ⟨(Nat.le_of_ble_eq_true rfl), (Nat.le_of_ble_eq_true rfl)⟩) ⟨Pw.blind, (va_recv hK.1 hP (ci := 3) (q0 := 18) rfl rfl), fun U hU hW => Pw.cut (tl := []) hK (by rw [List.append_nil]; exact hP) (by rw [List.append_nil]; exact hD) hZ hS hA [18] rfl rfl hU hW⟩ rfl rfl hl.1 rfl (lv_room (Nat.le_of_ble_eq_true rfl)) dX9_improve_50 ⟨(Nat.le_of_ble_eq_true rfl), (Nat.le_of_ble_eq_true rfl)⟩) hP hD hS hA [18] [0, 1, 2, 3, 4, 5, 6, 7, 8, 9, 10, 11, 12, 13, 14, 15, 16, 17] [0, 1, 2, 3, 4, 5, 6, 7, 8, 9, 10, 11, 12, 13, 14, 15, 16, 17, 18] rfl rfl rfl rfl (by decide) rfl rfl ?_
    clear hP hD hS
    intro H locs hP hD hS
    clear h_6
    refine lv_if_eq (tgt := 65) hx hb dX9_improve_53 (by decide) (fun c_8 => ?_) (fun c_8 => ?_)
    · replace hf := it_f hf (bi_e0 c_8)
      clear c_8
      refine lv_ldc hx hb S.2.2.2.1 (hts _ q1272) dX9_improve_65 ?_
      exact L67v0 (99999 : Int32) x13v0_1 x13v0_3 q13v0_1 y13v0_1_0 y13v0_1_1 y13v0_1_2 q_5 r_3.1 r_3.2.1 r_3.2.2 μ13v0 _ _ _ hf hP hD hS (lv_sub hl [1, 2, 3, 4, 5, 0] rfl)
    · replace hf := it_t hf (bi_n0 c_8)
      clear c_8
      refine lv_aload_n hx hb dX9_improve_56 rfl (lv_at hl 1 rfl) ?_
      refine lv_aload hx hb dX9_improve_57 (lv_at hl 0 rfl) ?_
      obtain ⟨r_106, ξ_105, h_104, hf⟩ := b2_some hf
      refine run_i0 (wr := [(q13v0_1, .inr (3, [.int y13v0_1_0, .int y13v0_1_1, .int y13v0_1_2]))]) (w' := XP d z b fl ξ_105 ++ [(o, .inr (9, [.ref q13v0_1, .int (ξ_105.1 90), .int (ξ_105.1 91), .ref (b 0)])), (q13v0_1, .inr (3, [.int y13v0_1_0, .int y13v0_1_1, .int y13v0_1_2])), (q_5, .inr (3, [.int r_3.1, .int r_3.2.1, .int r_3.2.2]))]) (va_runV (As := [.ref q_5]) (rest := []) S (tX9_evaluate l D d z b fl K o q13v0_1 q_5 (r_3.1, r_3.2.1, r_3.2.2) μ13v0 r_106 ξ_105 h_104 _) (cwV 1 hts (lw_V q1253 q1255 qs36 q121 q1256) rfl rfl rfl (by decide +kernel) ⟨(Nat.le_of_ble_eq_true rfl), (Nat.le_of_ble_eq_true rfl)⟩) ⟨Pw.blind, (va_recv hK.1 hP (ci := 9) (q0 := 16) rfl rfl), fun U hU hW => Pw.cut (tl := []) hK (by rw [List.append_nil]; exact hP) (by rw [List.append_nil]; exact hD) hZ hS hA [0, 1, 2, 3, 4, 5, 6, 7, 8, 9, 10, 11, 12, 13, 14, 15, 16, 18] rfl rfl hU hW⟩ rfl rfl hl.1 rfl (lv_room (Nat.le_of_ble_eq_true rfl)) dX9_improve_59 ⟨(Nat.le_of_ble_eq_true rfl), (Nat.le_of_ble_eq_true rfl)⟩) hP hD hS hA [0, 1, 2, 3, 4, 5, 6, 7, 8, 9, 10, 11, 12, 13, 14, 15, 16, 18] [17] [1, 2, 3, 4, 5, 6, 7, 8, 9, 10, 11, 12, 13, 14, 15, 16, 17, 0, 18] rfl rfl rfl rfl (by decide) rfl rfl ?_
      clear hP hD hS
      intro H locs hP hD hS
      clear h_104
      refine lv_goto (tgt := 67) hx hb dX9_improve_62 (by decide) ?_
      exact L67v0 r_106 x13v0_1 x13v0_3 q13v0_1 y13v0_1_0 y13v0_1_1 y13v0_1_2 q_5 r_3.1 r_3.2.1 r_3.2.2 ξ_105 _ _ _ hf hP hD hS (lv_sub hl [1, 2, 3, 4, 5, 0] rfl)
  unfold fX9_improve at hf
  refine lv_aload_n hx hb dX9_improve_0 rfl (lv_at hl 0 rfl) ?_
  refine g_get hx hb hts S.2.2.2.1 hK hP in_X9 16 rfl rfl 0 (by decide) q1273 (fun _ h9 => h9) (v := .ref on) rfl dX9_improve_1 ?_
  refine lv_astore_n (lv' := [(2, .ref on), (0, .ref o), (1, .int p0)]) hx hb dX9_improve_4 rfl hl (by decide) rfl (fun ls hl => ?_)
  refine lv_aload_n hx hb dX9_improve_5 rfl (lv_at hl 1 rfl) ?_
  refine g_get hx hb hts S.2.2.2.1 hK hP in_X9 16 rfl rfl 1 (by decide) q1275 (fun _ h9 => h9) (v := .int (μ.1 90)) rfl dX9_improve_6 ?_
  refine lv_topi (fun v_1 e_ => ?_)
  replace hf := nm_some hf v_1 e_
  clear e_
  refine lv_istore_n (lv' := [(3, .int v_1), (2, .ref on), (0, .ref o), (1, .int p0)]) hx hb dX9_improve_9 rfl hl (by decide) rfl (fun ls hl => ?_)
  refine lv_iconst (v := 0) hx hb dX9_improve_10 (by decide) ?_
  refine lv_istore (lv' := [(4, .int (0 : Int32)), (3, .int v_1), (2, .ref on), (0, .ref o), (1, .int p0)]) hx hb dX9_improve_11 hl (by decide) rfl (fun ls hl => ?_)
  exact L13v0 p0 v_1 on t.1 t.2.1 t.2.2 μ _ _ _ hf hP hD hS (lv_sub hl [3, 4, 2, 1, 0] rfl)
def fX9_init_L32 (K : Nat) : Nat → Int32 → Int32 → Int32 → Int32 → XS → Option ((Int32 × Int32 × Int32) × XS)
  | 0, _, _, _, _, _ => none
  | n + 1, x32_3, y32_1_0, y32_1_1, y32_1_2, μ32 =>
    if x32_3 ≤ 0 then
      some ((y32_1_0, y32_1_1, y32_1_2), μ32)
    else
      b3 (fX9_improve K (y32_1_0, y32_1_1, y32_1_2) x32_3 μ32) fun r_11 t_12 ξ_10 =>
      if r_11 = true then
        fX9_init_L32 K n x32_3 t_12.1 t_12.2.1 t_12.2.2 ξ_10
      else
        nm (x32_3 / (2 : Int32)) fun v_15 =>
        fX9_init_L32 K n v_15 t_12.1 t_12.2.1 t_12.2.2 ξ_10
def fX9_init (K : Nat) (p1 : Int32) (μ : XS) : Option ((Int32 × Int32 × Int32) × XS) :=
  nm (xI (xI μ 90 0) 91 0) fun ξ_0 =>
  b1 (fX2_of K p1) fun r_2 =>
  b2 (fX9_evaluate K (r_2.1, r_2.2.1, r_2.2.2) ξ_0) fun r_6 ξ_5 =>
  nm (xI ξ_5 90 r_6) fun ξ_7 =>
  fX9_init_L32 K 8200 (16 : Int32) r_2.1 r_2.2.1 r_2.2.2 ξ_7
set_option maxHeartbeats 4000000 in
set_option maxRecDepth 100000 in
theorem tX9_init (l : Launch) (D : va_G) (d : Nat → ClassId) (z : ZT) (b : Nat → Nat) (fl : Option Nat) (K : Nat) (o : Nat) (p1 : Int32) (μ : XS) (t' : (Int32 × Int32 × Int32)) (μ' : XS) (hf : fX9_init K p1 μ = some (t', μ')) : CVS l yX9_init (ws_ yX9_init cX9_init 4 (Option.none : Option Jvm.ClassFile.FieldType)) (rmc 9 41001 123003 200) D d z [.ref o, .ref (b 0), .int p1] (XP d z b fl μ ++ [(o, .inr (9, [.null, .int (0 : Int32), .int (0 : Int32), .null]))]) (fun u : Nat => XP d z b fl μ' ++ [(o, .inr (9, [.ref u, .int (μ'.1 90), .int (μ'.1 91), .ref (b 0)])), (u, .inr (3, [.int t'.1, .int t'.2.1, .int t'.2.2]))]) (fun _ => True) := by
  refine CVS.of (rt := .int) (own := RX9) rfl (by decide) (Nat.le_of_ble_eq_true rfl) ?_
  intro p e s m args below meth c A Q ls S hin hK hP hD hZ hS hA hl hret0
  have hret : ∀ (u : Nat) (tx : (Int32 × Int32 × Int32)) (μx : XS) (H : Heap) (locs : List Loc) (pc : Nat) (ls' : Array Slot), some (tx, μx) = some (t', μ') → decode cX9_init pc = .ok (.return_, 1) → va_P D CL (XP d z b fl μx ++ [(o, .inr (9, [.ref u, .int (μx.1 90), .int (μx.1 91), .ref (b 0)])), (u, .inr (3, [.int tx.1, .int tx.2.1, .int tx.2.2]))]) H → va_D A (XP d z b fl μx ++ [(o, .inr (9, [.ref u, .int (μx.1 90), .int (μx.1 91), .ref (b 0)])), (u, .inr (3, [.int tx.1, .int tx.2.1, .int tx.2.2]))]) → va_S A s.heap H locs → W p l e (rmc 9 41001 123003 200) s m args below meth c H locs 41001 123003 Q (F0 m pc ls' []) := by
    intro u tx μx H locs pc ls' h9 hdg hP hD hS
    obtain ⟨rfl, rfl⟩ := so_2 h9
    exact hret0 u trivial H locs pc ls' hdg hP hD hS
  have hx := S.1
  have hb := S.2.1
  have hts := S.2.2.2.2
  have hl : lv_has ls 4 [(0, .ref o), (1, .ref (b 0)), (2, .int p1)] := hl
  have L32 : ∀ (n : Nat) (x32_3 : Int32) (q32_1 : Nat) (y32_1_0 : Int32) (y32_1_1 : Int32) (y32_1_2 : Int32) (μ32 : XS) (H : Heap) (locs : List Loc) (ls : Array Slot), fX9_init_L32 K n x32_3 y32_1_0 y32_1_1 y32_1_2 μ32 = some (t', μ') → va_P D CL (XP d z b fl μ32 ++ [(o, .inr (9, [.ref q32_1, .int (μ32.1 90), .int (μ32.1 91), .ref (b 0)])), (q32_1, .inr (3, [.int y32_1_0, .int y32_1_1, .int y32_1_2]))]) H → va_D A (XP d z b fl μ32 ++ [(o, .inr (9, [.ref q32_1, .int (μ32.1 90), .int (μ32.1 91), .ref (b 0)])), (q32_1, .inr (3, [.int y32_1_0, .int y32_1_1, .int y32_1_2]))]) → va_S A s.heap H locs → lv_has ls 4 [(0, .ref o), (3, .int x32_3)] → ∀ (kc ks : Nat), kc + 5 * n ≤ 41001 → ks + 15 * n ≤ 123003 → W p l e (rmc 9 41001 123003 200) s m args below meth c H locs kc ks Q (F0 m 32 ls []) := by
    intro n
    induction n with
    | zero =>
      intro x32_3 q32_1 y32_1_0 y32_1_1 y32_1_2 μ32 H locs ls hf hP hD hS hl kc ks hkc hks
      rw [fX9_init_L32] at hf
      cases hf
    | succ n ih =>
      intro x32_3 q32_1 y32_1_0 y32_1_1 y32_1_2 μ32 H locs ls hf hP hD hS hl kc ks hkc hks
      rw [fX9_init_L32] at hf
      refine lv_iload_n hx hb dX9_init_32 rfl (lv_at hl 1 rfl) ?_
      refine lv_if_le (tgt := 51) hx hb dX9_init_33 (by decide) (fun c_8 => ?_) (fun c_8 => ?_)
      · replace hf := it_t hf c_8
        clear c_8
        refine W.widen (k := 41001) (n := 123003) (Nat.le_trans (by omega) hkc) (Nat.le_trans (by omega) hks) ?_
        exact hret q32_1 _ _ _ _ _ _ hf dX9_init_51 hP hD hS
      · replace hf := it_f hf c_8
        clear c_8
        refine lv_aload_n hx hb dX9_init_36 rfl (lv_at hl 0 rfl) ?_
        refine lv_iload_n hx hb dX9_init_37 rfl (lv_at hl 1 rfl) ?_
        obtain ⟨r_11, t_12, ξ_10, h_9, hf⟩ := b3_some hf
        refine run_iS0 (wr := []) (w' := fun u => XP d z b fl ξ_10 ++ [(o, .inr (9, [.ref u, .int (ξ_10.1 90), .int (ξ_10.1 91), .ref (b 0)])), (u, .inr (3, [.int t_12.1, .int t_12.2.1, .int t_12.2.2]))]) (va_runV (As := [.int x32_3]) (rest := []) S (tX9_improve l D d z b fl K o q32_1 (y32_1_0, y32_1_1, y32_1_2) x32_3 μ32 r_11 t_12 ξ_10 h_9 _) (cwV 1 hts (lw_V q1259 q1261 qs37 q121 q1262) rfl rfl rfl (by decide +kernel) ⟨(Nat.le_of_ble_eq_true rfl), (Nat.le_of_ble_eq_true rfl)⟩) ⟨Pw.blind, (va_recv hK.1 hP (ci := 9) (q0 := 16) rfl rfl), fun U hU hW => Pw.cut (tl := []) hK (by rw [List.append_nil]; exact hP) (by rw [List.append_nil]; exact hD) hZ hS hA [0, 1, 2, 3, 4, 5, 6, 7, 8, 9, 10, 11, 12, 13, 14, 15, 16, 17] rfl rfl hU hW⟩ rfl rfl hl.1 rfl (lv_room (Nat.le_of_ble_eq_true rfl)) dX9_init_38 ⟨(Nat.le_trans (show kc + 5 ≤ kc + 5 * (n + 1) by omega) hkc), (Nat.le_trans (show ks + 15 ≤ ks + 15 * (n + 1) by omega) hks)⟩) hP hD hS hA [0, 1, 2, 3, 4, 5, 6, 7, 8, 9, 10, 11, 12, 13, 14, 15, 16, 17] [] [0, 1, 2, 3, 4, 5, 6, 7, 8, 9, 10, 11, 12, 13, 14, 15, 16, 17] rfl rfl rfl rfl (by decide) rfl (fun _ => rfl) ?_
        clear hP hD hS
        intro q_13 _ H locs hP hD hS
        clear h_9
        refine lv_if_ne (tgt := 32) hx hb dX9_init_41 (by decide) (fun c_14 => ?_) (fun c_14 => ?_)
        · replace hf := it_t hf (bi_n0 c_14)
          clear c_14
          exact ih x32_3 q_13 t_12.1 t_12.2.1 t_12.2.2 ξ_10 _ _ _ hf hP hD hS (lv_sub hl [0, 1] rfl) (kc + 5) (ks + 15) (by omega) (by omega)
        · replace hf := it_f hf (bi_e0 c_14)
          clear c_14
          refine lv_iload_n hx hb dX9_init_44 rfl (lv_at hl 1 rfl) ?_
          refine lv_iconst (v := 2) hx hb dX9_init_45 (by decide) ?_
          refine lv_idiv hx hb dX9_init_46 (by decide) ?_
          refine lv_topi (fun v_15 e_ => ?_)
          replace hf := nm_some hf v_15 e_
          clear e_
          refine lv_istore_n (lv' := [(3, .int v_15), (0, .ref o)]) hx hb dX9_init_47 rfl hl (by decide) rfl (fun ls hl => ?_)
          refine lv_goto (tgt := 32) hx hb dX9_init_48 (by decide) ?_
          exact ih v_15 q_13 t_12.1 t_12.2.1 t_12.2.2 ξ_10 _ _ _ hf hP hD hS (lv_sub hl [1, 0] rfl) (kc + 5) (ks + 15) (by omega) (by omega)
  unfold fX9_init at hf
  obtain ⟨ξ_0, e_0⟩ : ∃ x, x = xI (xI μ 90 0) 91 0 := ⟨_, rfl⟩
  replace hP : va_P D CL (XP d z b fl ξ_0 ++ [(o, .inr (9, [.null, .int (ξ_0.1 90), .int (ξ_0.1 91), .null]))]) s.heap := by subst e_0; exact hP
  replace hD : va_D A (XP d z b fl ξ_0 ++ [(o, .inr (9, [.null, .int (ξ_0.1 90), .int (ξ_0.1 91), .null]))]) := by subst e_0; exact hD
  replace hf := nm_some hf ξ_0 e_0
  clear e_0
  refine lv_aload_n hx hb dX9_init_0 rfl (lv_at hl 0 rfl) ?_
  refine lv_aload_n hx hb dX9_init_1 rfl (lv_at hl 1 rfl) ?_
  refine g_putF hx hb hts S.2.2.2.1 hK hP hD hS in_X9 tyX9 tyX9_ok nmX9 16 rfl rfl 3 (by decide) q1279 (fun _ h9 => h9) rfl hin rfl (v := .ref (b 0)) rfl rfl rfl (Nat.le_of_ble_eq_true rfl) (w' := XP d z b fl ξ_0 ++ [(o, .inr (9, [.null, .int (ξ_0.1 90), .int (ξ_0.1 91), .ref (b 0)]))]) rfl dX9_init_2 ?_
  clear hP hD hS
  intro H locs hP hD hS
  refine lv_aload_n hx hb dX9_init_5 rfl (lv_at hl 0 rfl) ?_
  refine W.objInit hx hb S.2.2.2.1 (hts _ q1251) (hts _ q136) (hts _ q137) rfl (by rw [S.2.2.1]; exact hl.1) rfl dX9_init_6 (Nat.le_of_ble_eq_true rfl) (Nat.le_of_ble_eq_true rfl) ?_
  refine W.eq (g2 := F0 m 9 ls []) rfl ?_
  refine lv_aload_n hx hb dX9_init_9 rfl (lv_at hl 0 rfl) ?_
  refine lv_iload_n hx hb dX9_init_10 rfl (lv_at hl 2 rfl) ?_
  obtain ⟨r_2, h_1, hf⟩ := b1_some hf
  refine run_rS0 (wr := [(b 0, .inr (1, [.ref (b 1), .int (ξ_0.1 1), .int (ξ_0.1 2), .ref (b 2), .ref (b 3), .ref (b 4), va_rf fl, .ref (b 7), .ref (b 13), .ref (b 16), .int (ξ_0.1 10)])), (b 1, .inl (d 2, 500, .inl (ξ_0.2.2.1 1))), (b 2, .inl (d 5, 2, .inr (.inr (.inr (.inr (fun j => some (z.2.2 j))))))), (b 3, .inl (d 6, 5, .inr (.inr (.inr (.inr (fun j => some (z.2.2 (2 + j)))))))), (b 4, .inr (4, [.int (ξ_0.1 20), .long (ξ_0.2.1 21), .long (ξ_0.2.1 22), .long (ξ_0.2.1 23), .ref (b 5), .ref (b 6), .ref (b 0)])), (b 5, .inr (2, [.long (ξ_0.2.1 30), .long (ξ_0.2.1 31)])), (b 6, .inr (2, [.long (ξ_0.2.1 32), .long (ξ_0.2.1 33)])), (b 7, .inr (6, [.int (ξ_0.1 40), .int (ξ_0.1 41), .int (ξ_0.1 42), .int (ξ_0.1 43), .int (ξ_0.1 44), .int (ξ_0.1 45), .ref (b 8), .ref (b 9), .ref (b 10), .int (ξ_0.1 49), .ref (b 11), .ref (b 12), .int (ξ_0.1 52)])), (b 8, .inl (d 0, 16, .inl (ξ_0.2.2.1 46))), (b 9, .inl (d 1, 16, .inr (.inl (ξ_0.2.2.2.1 47)))), (b 10, .inl (d 1, 16, .inr (.inl (ξ_0.2.2.2.1 48)))), (b 11, .inl (d 0, 8, .inl (ξ_0.2.2.1 50))), (b 12, .inl (d 0, 8, .inl (ξ_0.2.2.1 51))), (b 13, .inr (8, [.int (ξ_0.1 60), .int (ξ_0.1 61), .int (ξ_0.1 62), .int (ξ_0.1 63), .ref (b 14), .ref (b 15), .int (ξ_0.1 66), .ref (b 17)])), (b 14, .inl (d 0, 100, .inl (ξ_0.2.2.1 64))), (b 15, .inl (d 3, 100, .inl (ξ_0.2.2.1 65))), (o, .inr (9, [.null, .int (ξ_0.1 90), .int (ξ_0.1 91), .ref (b 0)]))]) (w' := fun u => XP d z b fl ξ_0 ++ [(o, .inr (9, [.null, .int (ξ_0.1 90), .int (ξ_0.1 91), .ref (b 0)])), (u, .inr (3, [.int r_2.1, .int r_2.2.1, .int r_2.2.2]))]) (va_runS (As := [.int p1]) (rest := [.ref o]) S (tX2_of l D d z K p1 r_2 h_1 _) (va_cwS 1 hts (lw_S q1252 q1040 q97 q1041) rfl rfl rfl (by decide +kernel) ⟨(Nat.le_of_ble_eq_true rfl), (Nat.le_of_ble_eq_true rfl)⟩) ⟨Pw.blind, fun U hU hW => Pw.cut (w := []) (tl := _) hK hP hD hZ hS hA [] rfl rfl hU hW⟩ rfl rfl hl.1 rfl (lv_room (Nat.le_of_ble_eq_true rfl)) dX9_init_11 ⟨(Nat.le_of_ble_eq_true rfl), (Nat.le_of_ble_eq_true rfl)⟩) hP hD hS hA [] [0, 1, 2, 3, 4, 5, 6, 7, 8, 9, 10, 11, 12, 13, 14, 15, 16] [0, 1, 2, 3, 4, 5, 6, 7, 8, 9, 10, 11, 12, 13, 14, 15, 16, 17] rfl rfl rfl rfl (by decide) rfl (fun _ => rfl) ?_
  clear hP hD hS
  intro q_3 _ H locs hP hD hS
  clear h_1
  refine g_put hx hb hts S.2.2.2.1 hK hP hD hS in_X9 tyX9 tyX9_ok nmX9 16 rfl rfl 0 (by decide) q1273 (fun _ h9 => h9) rfl (v := .ref q_3) rfl rfl rfl (Nat.le_of_ble_eq_true rfl) (w' := XP d z b fl ξ_0 ++ [(o, .inr (9, [.ref q_3, .int (ξ_0.1 90), .int (ξ_0.1 91), .ref (b 0)])), (q_3, .inr (3, [.int r_2.1, .int r_2.2.1, .int r_2.2.2]))]) rfl dX9_init_14 ?_
  clear hP hD hS
  intro H locs hP hD hS
  refine lv_aload_n hx hb dX9_init_17 rfl (lv_at hl 0 rfl) ?_
  refine lv_aload_n hx hb dX9_init_18 rfl (lv_at hl 0 rfl) ?_
  refine lv_aload_n hx hb dX9_init_19 rfl (lv_at hl 0 rfl) ?_
  refine g_get hx hb hts S.2.2.2.1 hK hP in_X9 16 rfl rfl 0 (by decide) q1273 (fun _ h9 => h9) (v := .ref q_3) rfl dX9_init_20 ?_
  obtain ⟨r_6, ξ_5, h_4, hf⟩ := b2_some hf
  refine run_i0 (wr := []) (w' := XP d z b fl ξ_5 ++ [(o, .inr (9, [.ref q_3, .int (ξ_5.1 90), .int (ξ_5.1 91), .ref (b 0)])), (q_3, .inr (3, [.int r_2.1, .int r_2.2.1, .int r_2.2.2]))]) (va_runV (As := [.ref q_3]) (rest := [.ref o]) S (tX9_evaluate l D d z b fl K o q_3 q_3 (r_2.1, r_2.2.1, r_2.2.2) ξ_0 r_6 ξ_5 h_4 _) (cwV 1 hts (lw_V q1253 q1255 qs36 q121 q1256) rfl rfl rfl (by decide +kernel) ⟨(Nat.le_of_ble_eq_true rfl), (Nat.le_of_ble_eq_true rfl)⟩) ⟨Pw.blind, (va_recv hK.1 hP (ci := 9) (q0 := 16) rfl rfl), fun U hU hW => Pw.cut (tl := []) hK (by rw [List.append_nil]; exact hP) (by rw [List.append_nil]; exact hD) hZ hS hA [0, 1, 2, 3, 4, 5, 6, 7, 8, 9, 10, 11, 12, 13, 14, 15, 16, 17] rfl rfl hU hW⟩ rfl rfl hl.1 rfl (lv_room (Nat.le_of_ble_eq_true rfl)) dX9_init_23 ⟨(Nat.le_of_ble_eq_true rfl), (Nat.le_of_ble_eq_true rfl)⟩) hP hD hS hA [0, 1, 2, 3, 4, 5, 6, 7, 8, 9, 10, 11, 12, 13, 14, 15, 16, 17] [] [0, 1, 2, 3, 4, 5, 6, 7, 8, 9, 10, 11, 12, 13, 14, 15, 16, 17] rfl rfl rfl rfl (by decide) rfl rfl ?_
  clear hP hD hS
  intro H locs hP hD hS
  clear h_4
  obtain ⟨ξ_7, e_ξ_7⟩ : ∃ x, x = xI ξ_5 90 r_6 := ⟨_, rfl⟩
  refine g_put hx hb hts S.2.2.2.1 hK hP hD hS in_X9 tyX9 tyX9_ok nmX9 16 rfl rfl 1 (by decide) q1275 (fun _ h9 => h9) rfl (v := .int r_6) rfl rfl rfl (Nat.le_of_ble_eq_true rfl) (w' := XP d z b fl ξ_7 ++ [(o, .inr (9, [.ref q_3, .int (ξ_7.1 90), .int (ξ_7.1 91), .ref (b 0)])), (q_3, .inr (3, [.int r_2.1, .int r_2.2.1, .int r_2.2.2]))]) (by subst e_ξ_7; rfl) dX9_init_26 ?_
  clear hP hD hS
  intro H locs hP hD hS
  replace hf := nm_some hf ξ_7 e_ξ_7
  clear e_ξ_7
  refine lv_bipush (v := 16) hx hb dX9_init_29 (by decide) ?_
  refine lv_istore_n (lv' := [(3, .int (16 : Int32)), (0, .ref o), (1, .ref (b 0)), (2, .int p1)]) hx hb dX9_init_31 rfl hl (by decide) rfl (fun ls hl => ?_)
  exact L32 8200 (16 : Int32) q_3 r_2.1 r_2.2.1 r_2.2.2 ξ_7 _ _ _ hf hP hD hS (lv_sub hl [1, 0] rfl) 1 3 (Nat.le_of_ble_eq_true rfl) (Nat.le_of_ble_eq_true rfl)
