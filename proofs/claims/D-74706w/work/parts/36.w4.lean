/-! not loaded -/
set_option maxRecDepth 100000
def fX0_isEntryu (K : Nat) (p0 : Int32) (μ : XS) : Option (Bool × XS) :=
  b2 (fX0_isReadyu K μ) fun r_2 ξ_3 =>
  if r_2 = true then
    none
  else
    some (false, ξ_3)
set_option maxHeartbeats 4000000 in
set_option maxRecDepth 100000 in
theorem tX0_isEntryu (l : Launch) (D : va_G) (d : Nat → ClassId) (z : ZT) (b : Nat → Nat) (fl : Option Nat) (K : Nat) (p0 : Int32) (μ : XS) (r : Bool) (μ' : XS) (hf : fX0_isEntryu K p0 μ = some (r, μ')) : CI l yX0_isEntry (ws_ yX0_isEntry cX0_isEntry 2 (Option.some Jvm.ClassFile.FieldType.boolean)) (rmc 1 0 0 20) D d z [.ref (b 0), .int p0] (XU d z b fl μ) (bi r) (XU d z b fl μ') := by
  refine CI.of2 (own := RX0) rfl (by decide) (Nat.le_of_ble_eq_true rfl) (bi_nar r) ?_
  intro p e s m args below meth c A Q ls S hin hK hP hD hZ hS hA hl hret0
  have hret : ∀ (x : Bool) (μx : XS) (H : Heap) (locs : List Loc) (pc : Nat) (ls' : Array Slot), some (x, μx) = some (r, μ') → decode cX0_isEntry pc = .ok (.ireturn, 1) → va_P D CL (XU d z b fl μx) H → va_D A (XU d z b fl μx) → va_S A s.heap H locs → W p l e (rmc 1 0 0 20) s m args below meth c H locs 0 0 Q (F0 m pc ls' [.int (bi x)]) := by
    intro x μx H locs pc ls' h9 hdg hP hD hS
    obtain ⟨rfl, rfl⟩ := so_2 h9
    exact hret0 H locs pc ls' hdg hP hD hS
  have hx := S.1
  have hb := S.2.1
  have hts := S.2.2.2.2
  have hl : lv_has ls 2 [(0, .ref (b 0)), (1, .int p0)] := hl
  unfold fX0_isEntryu at hf
  refine lv_aload_n hx hb dX0_isEntry_0 rfl (lv_at hl 0 rfl) ?_
  obtain ⟨r_2, ξ_3, h_1, hf⟩ := b2_some hf
  refine runW_i (va_runV (As := []) (rest := []) S (tX0_isReadyu l D d z b fl K μ r_2 ξ_3 h_1 _) (cwV 0 hts (lw_V q857 q859 qs18 q94 q860) rfl rfl rfl (by decide +kernel) ⟨(Nat.le_of_ble_eq_true rfl), (Nat.le_of_ble_eq_true rfl)⟩) ⟨Pw.blind, (va_recv hK.1 hP (ci := 1) (q0 := 0) rfl rfl), fun U hU hW => Pw.at hK hP hD hZ hS hA hU hW⟩ rfl rfl hl.1 rfl (lv_room (Nat.le_of_ble_eq_true rfl)) dX0_isEntry_1 ⟨(Nat.le_of_ble_eq_true rfl), (Nat.le_of_ble_eq_true rfl)⟩) hP hD hS hA ?_
  clear hP hD hS
  intro H locs hP hD hS
  clear h_1
  refine lv_if_eq (tgt := 31) hx hb dX0_isEntry_4 (by decide) (fun c_4 => ?_) (fun c_4 => ?_)
  · replace hf := it_f hf (bi_e0 c_4)
    clear c_4
    refine lv_iconst (v := 0) hx hb dX0_isEntry_31 (by decide) ?_
    refine W.widen (k := 0) (n := 0) (Nat.le_of_ble_eq_true rfl) (Nat.le_of_ble_eq_true rfl) ?_
    exact hret _ _ _ _ _ _ hf dX0_isEntry_32 hP hD hS
  · replace hf := it_t hf (bi_n0 c_4)
    clear c_4
    cases hf
def fX0_setFrequencyu (K : Nat) (p0 : Int32) (μ : XS) : Option (Int32 × XS) :=
  b2 (fX0_isReadyu K μ) fun r_2 ξ_3 =>
  if r_2 = true then
    b1 (fX0_isFrequency K p0) fun r_5 =>
    if r_5 = true then
      none
    else
      some ((-1 : Int32), ξ_3)
  else
    some ((-1 : Int32), ξ_3)
set_option maxHeartbeats 4000000 in
set_option maxRecDepth 100000 in
theorem tX0_setFrequencyu (l : Launch) (D : va_G) (d : Nat → ClassId) (z : ZT) (b : Nat → Nat) (fl : Option Nat) (K : Nat) (p0 : Int32) (μ : XS) (r : Int32) (μ' : XS) (hf : fX0_setFrequencyu K p0 μ = some (r, μ')) : CI l yX0_setFrequency (ws_ yX0_setFrequency cX0_setFrequency 3 (Option.some Jvm.ClassFile.FieldType.int)) (rmc 2 0 0 42) D d z [.ref (b 0), .int p0] (XU d z b fl μ) r (XU d z b fl μ') := by
  refine CI.of2 (own := RX0) rfl (by decide) (Nat.le_of_ble_eq_true rfl) rfl ?_
  intro p e s m args below meth c A Q ls S hin hK hP hD hZ hS hA hl hret0
  have hret : ∀ (x : Int32) (μx : XS) (H : Heap) (locs : List Loc) (pc : Nat) (ls' : Array Slot), some (x, μx) = some (r, μ') → decode cX0_setFrequency pc = .ok (.ireturn, 1) → va_P D CL (XU d z b fl μx) H → va_D A (XU d z b fl μx) → va_S A s.heap H locs → W p l e (rmc 2 0 0 42) s m args below meth c H locs 0 0 Q (F0 m pc ls' [.int x]) := by
    intro x μx H locs pc ls' h9 hdg hP hD hS
    obtain ⟨rfl, rfl⟩ := so_2 h9
    exact hret0 H locs pc ls' hdg hP hD hS
  have hx := S.1
  have hb := S.2.1
  have hts := S.2.2.2.2
  have hl : lv_has ls 3 [(0, .ref (b 0)), (1, .int p0)] := hl
  unfold fX0_setFrequencyu at hf
  refine lv_aload_n hx hb dX0_setFrequency_0 rfl (lv_at hl 0 rfl) ?_
  obtain ⟨r_2, ξ_3, h_1, hf⟩ := b2_some hf
  refine runW_i (va_runV (As := []) (rest := []) S (tX0_isReadyu l D d z b fl K μ r_2 ξ_3 h_1 _) (cwV 0 hts (lw_V q857 q859 qs18 q94 q860) rfl rfl rfl (by decide +kernel) ⟨(Nat.le_of_ble_eq_true rfl), (Nat.le_of_ble_eq_true rfl)⟩) ⟨Pw.blind, (va_recv hK.1 hP (ci := 1) (q0 := 0) rfl rfl), fun U hU hW => Pw.at hK hP hD hZ hS hA hU hW⟩ rfl rfl hl.1 rfl (lv_room (Nat.le_of_ble_eq_true rfl)) dX0_setFrequency_1 ⟨(Nat.le_of_ble_eq_true rfl), (Nat.le_of_ble_eq_true rfl)⟩) hP hD hS hA ?_
  clear hP hD hS
  intro H locs hP hD hS
  clear h_1
  refine lv_if_eq (tgt := 14) hx hb dX0_setFrequency_4 (by decide) (fun c_4 => ?_) (fun c_4 => ?_)
  · replace hf := it_f hf (bi_e0 c_4)
    clear c_4
    refine lv_iconst (v := -1) hx hb dX0_setFrequency_14 (by decide) ?_
    refine W.widen (k := 0) (n := 0) (Nat.le_of_ble_eq_true rfl) (Nat.le_of_ble_eq_true rfl) ?_
    exact hret _ _ _ _ _ _ hf dX0_setFrequency_15 hP hD hS
  · replace hf := it_t hf (bi_n0 c_4)
    clear c_4
    refine lv_iload_n hx hb dX0_setFrequency_7 rfl (lv_at hl 1 rfl) ?_
    obtain ⟨r_5, h_6, hf⟩ := b1_some hf
    refine si_call S (tX0_isFrequency l K p0 _ h_6) (va_cwS 1 hts (lw_S q861 q862 q94 q863) rfl rfl rfl (by decide +kernel) ⟨(Nat.le_of_ble_eq_true rfl), (Nat.le_of_ble_eq_true rfl)⟩) rfl hl.1 rfl (Nat.le_of_ble_eq_true rfl) ⟨(Nat.le_of_ble_eq_true rfl), (Nat.le_of_ble_eq_true rfl)⟩ dX0_setFrequency_8 ?_
    clear h_6
    refine lv_if_ne (tgt := 16) hx hb dX0_setFrequency_11 (by decide) (fun c_7 => ?_) (fun c_7 => ?_)
    · replace hf := it_t hf (bi_n0 c_7)
      clear c_7
      cases hf
    · replace hf := it_f hf (bi_e0 c_7)
      clear c_7
      refine lv_iconst (v := -1) hx hb dX0_setFrequency_14 (by decide) ?_
      refine W.widen (k := 0) (n := 0) (Nat.le_of_ble_eq_true rfl) (Nat.le_of_ble_eq_true rfl) ?_
      exact hret _ _ _ _ _ _ hf dX0_setFrequency_15 hP hD hS
def fX0_setSideu (K : Nat) (p0 : Int32) (μ : XS) : Option (Int32 × XS) :=
  b2 (fX0_isReadyu K μ) fun r_2 ξ_3 =>
  if r_2 = true then
    b1 (fX0_isIn K p0 (0 : Int32) (1 : Int32)) fun r_5 =>
    if r_5 = true then
      none
    else
      some ((-1 : Int32), ξ_3)
  else
    some ((-1 : Int32), ξ_3)
set_option maxHeartbeats 4000000 in
set_option maxRecDepth 100000 in
theorem tX0_setSideu (l : Launch) (D : va_G) (d : Nat → ClassId) (z : ZT) (b : Nat → Nat) (fl : Option Nat) (K : Nat) (p0 : Int32) (μ : XS) (r : Int32) (μ' : XS) (hf : fX0_setSideu K p0 μ = some (r, μ')) : CI l yX0_setSide (ws_ yX0_setSide cX0_setSide 3 (Option.some Jvm.ClassFile.FieldType.int)) (rmc 1 0 0 22) D d z [.ref (b 0), .int p0] (XU d z b fl μ) r (XU d z b fl μ') := by
  refine CI.of2 (own := RX0) rfl (by decide) (Nat.le_of_ble_eq_true rfl) rfl ?_
  intro p e s m args below meth c A Q ls S hin hK hP hD hZ hS hA hl hret0
  have hret : ∀ (x : Int32) (μx : XS) (H : Heap) (locs : List Loc) (pc : Nat) (ls' : Array Slot), some (x, μx) = some (r, μ') → decode cX0_setSide pc = .ok (.ireturn, 1) → va_P D CL (XU d z b fl μx) H → va_D A (XU d z b fl μx) → va_S A s.heap H locs → W p l e (rmc 1 0 0 22) s m args below meth c H locs 0 0 Q (F0 m pc ls' [.int x]) := by
    intro x μx H locs pc ls' h9 hdg hP hD hS
    obtain ⟨rfl, rfl⟩ := so_2 h9
    exact hret0 H locs pc ls' hdg hP hD hS
  have hx := S.1
  have hb := S.2.1
  have hts := S.2.2.2.2
  have hl : lv_has ls 3 [(0, .ref (b 0)), (1, .int p0)] := hl
  unfold fX0_setSideu at hf
  refine lv_aload_n hx hb dX0_setSide_0 rfl (lv_at hl 0 rfl) ?_
  obtain ⟨r_2, ξ_3, h_1, hf⟩ := b2_some hf
  refine runW_i (va_runV (As := []) (rest := []) S (tX0_isReadyu l D d z b fl K μ r_2 ξ_3 h_1 _) (cwV 0 hts (lw_V q857 q859 qs18 q94 q860) rfl rfl rfl (by decide +kernel) ⟨(Nat.le_of_ble_eq_true rfl), (Nat.le_of_ble_eq_true rfl)⟩) ⟨Pw.blind, (va_recv hK.1 hP (ci := 1) (q0 := 0) rfl rfl), fun U hU hW => Pw.at hK hP hD hZ hS hA hU hW⟩ rfl rfl hl.1 rfl (lv_room (Nat.le_of_ble_eq_true rfl)) dX0_setSide_1 ⟨(Nat.le_of_ble_eq_true rfl), (Nat.le_of_ble_eq_true rfl)⟩) hP hD hS hA ?_
  clear hP hD hS
  intro H locs hP hD hS
  clear h_1
  refine lv_if_eq (tgt := 16) hx hb dX0_setSide_4 (by decide) (fun c_4 => ?_) (fun c_4 => ?_)
  · replace hf := it_f hf (bi_e0 c_4)
    clear c_4
    refine lv_iconst (v := -1) hx hb dX0_setSide_16 (by decide) ?_
    refine W.widen (k := 0) (n := 0) (Nat.le_of_ble_eq_true rfl) (Nat.le_of_ble_eq_true rfl) ?_
    exact hret _ _ _ _ _ _ hf dX0_setSide_17 hP hD hS
  · replace hf := it_t hf (bi_n0 c_4)
    clear c_4
    refine lv_iload_n hx hb dX0_setSide_7 rfl (lv_at hl 1 rfl) ?_
    refine lv_iconst (v := 0) hx hb dX0_setSide_8 (by decide) ?_
    refine lv_iconst (v := 1) hx hb dX0_setSide_9 (by decide) ?_
    obtain ⟨r_5, h_6, hf⟩ := b1_some hf
    refine si_call S (tX0_isIn l K p0 (0 : Int32) (1 : Int32) _ h_6) (va_cwS 3 hts (lw_S q331 q332 q94 q333) rfl rfl rfl (by decide +kernel) ⟨(Nat.le_of_ble_eq_true rfl), (Nat.le_of_ble_eq_true rfl)⟩) rfl hl.1 rfl (Nat.le_of_ble_eq_true rfl) ⟨(Nat.le_of_ble_eq_true rfl), (Nat.le_of_ble_eq_true rfl)⟩ dX0_setSide_10 ?_
    clear h_6
    refine lv_if_ne (tgt := 18) hx hb dX0_setSide_13 (by decide) (fun c_7 => ?_) (fun c_7 => ?_)
    · replace hf := it_t hf (bi_n0 c_7)
      clear c_7
      cases hf
    · replace hf := it_f hf (bi_e0 c_7)
      clear c_7
      refine lv_iconst (v := -1) hx hb dX0_setSide_16 (by decide) ?_
      refine W.widen (k := 0) (n := 0) (Nat.le_of_ble_eq_true rfl) (Nat.le_of_ble_eq_true rfl) ?_
      exact hret _ _ _ _ _ _ hf dX0_setSide_17 hP hD hS
def fX0_setCoilu (K : Nat) (p0 : Int32) (μ : XS) : Option (Int32 × XS) :=
  b2 (fX0_isReadyu K μ) fun r_2 ξ_3 =>
  if r_2 = true then
    b1 (fX0_isSetting K p0) fun r_5 =>
    if r_5 = true then
      none
    else
      some ((-1 : Int32), ξ_3)
  else
    some ((-1 : Int32), ξ_3)
set_option maxHeartbeats 4000000 in
set_option maxRecDepth 100000 in
theorem tX0_setCoilu (l : Launch) (D : va_G) (d : Nat → ClassId) (z : ZT) (b : Nat → Nat) (fl : Option Nat) (K : Nat) (p0 : Int32) (μ : XS) (r : Int32) (μ' : XS) (hf : fX0_setCoilu K p0 μ = some (r, μ')) : CI l yX0_setCoil (ws_ yX0_setCoil cX0_setCoil 3 (Option.some Jvm.ClassFile.FieldType.int)) (rmc 2 0 0 42) D d z [.ref (b 0), .int p0] (XU d z b fl μ) r (XU d z b fl μ') := by
  refine CI.of2 (own := RX0) rfl (by decide) (Nat.le_of_ble_eq_true rfl) rfl ?_
  intro p e s m args below meth c A Q ls S hin hK hP hD hZ hS hA hl hret0
  have hret : ∀ (x : Int32) (μx : XS) (H : Heap) (locs : List Loc) (pc : Nat) (ls' : Array Slot), some (x, μx) = some (r, μ') → decode cX0_setCoil pc = .ok (.ireturn, 1) → va_P D CL (XU d z b fl μx) H → va_D A (XU d z b fl μx) → va_S A s.heap H locs → W p l e (rmc 2 0 0 42) s m args below meth c H locs 0 0 Q (F0 m pc ls' [.int x]) := by
    intro x μx H locs pc ls' h9 hdg hP hD hS
    obtain ⟨rfl, rfl⟩ := so_2 h9
    exact hret0 H locs pc ls' hdg hP hD hS
  have hx := S.1
  have hb := S.2.1
  have hts := S.2.2.2.2
  have hl : lv_has ls 3 [(0, .ref (b 0)), (1, .int p0)] := hl
  unfold fX0_setCoilu at hf
  refine lv_aload_n hx hb dX0_setCoil_0 rfl (lv_at hl 0 rfl) ?_
  obtain ⟨r_2, ξ_3, h_1, hf⟩ := b2_some hf
  refine runW_i (va_runV (As := []) (rest := []) S (tX0_isReadyu l D d z b fl K μ r_2 ξ_3 h_1 _) (cwV 0 hts (lw_V q857 q859 qs18 q94 q860) rfl rfl rfl (by decide +kernel) ⟨(Nat.le_of_ble_eq_true rfl), (Nat.le_of_ble_eq_true rfl)⟩) ⟨Pw.blind, (va_recv hK.1 hP (ci := 1) (q0 := 0) rfl rfl), fun U hU hW => Pw.at hK hP hD hZ hS hA hU hW⟩ rfl rfl hl.1 rfl (lv_room (Nat.le_of_ble_eq_true rfl)) dX0_setCoil_1 ⟨(Nat.le_of_ble_eq_true rfl), (Nat.le_of_ble_eq_true rfl)⟩) hP hD hS hA ?_
  clear hP hD hS
  intro H locs hP hD hS
  clear h_1
  refine lv_if_eq (tgt := 14) hx hb dX0_setCoil_4 (by decide) (fun c_4 => ?_) (fun c_4 => ?_)
  · replace hf := it_f hf (bi_e0 c_4)
    clear c_4
    refine lv_iconst (v := -1) hx hb dX0_setCoil_14 (by decide) ?_
    refine W.widen (k := 0) (n := 0) (Nat.le_of_ble_eq_true rfl) (Nat.le_of_ble_eq_true rfl) ?_
    exact hret _ _ _ _ _ _ hf dX0_setCoil_15 hP hD hS
  · replace hf := it_t hf (bi_n0 c_4)
    clear c_4
    refine lv_iload_n hx hb dX0_setCoil_7 rfl (lv_at hl 1 rfl) ?_
    obtain ⟨r_5, h_6, hf⟩ := b1_some hf
    refine si_call S (tX0_isSetting l K p0 _ h_6) (va_cwS 1 hts (lw_S q1060 q1061 q94 q1062) rfl rfl rfl (by decide +kernel) ⟨(Nat.le_of_ble_eq_true rfl), (Nat.le_of_ble_eq_true rfl)⟩) rfl hl.1 rfl (Nat.le_of_ble_eq_true rfl) ⟨(Nat.le_of_ble_eq_true rfl), (Nat.le_of_ble_eq_true rfl)⟩ dX0_setCoil_8 ?_
    clear h_6
    refine lv_if_ne (tgt := 16) hx hb dX0_setCoil_11 (by decide) (fun c_7 => ?_) (fun c_7 => ?_)
    · replace hf := it_t hf (bi_n0 c_7)
      clear c_7
      cases hf
    · replace hf := it_f hf (bi_e0 c_7)
      clear c_7
      refine lv_iconst (v := -1) hx hb dX0_setCoil_14 (by decide) ?_
      refine W.widen (k := 0) (n := 0) (Nat.le_of_ble_eq_true rfl) (Nat.le_of_ble_eq_true rfl) ?_
      exact hret _ _ _ _ _ _ hf dX0_setCoil_15 hP hD hS
def fX0_setCapacitoru (K : Nat) (p0 : Int32) (μ : XS) : Option (Int32 × XS) :=
  b2 (fX0_isReadyu K μ) fun r_2 ξ_3 =>
  if r_2 = true then
    b1 (fX0_isSetting K p0) fun r_5 =>
    if r_5 = true then
      none
    else
      some ((-1 : Int32), ξ_3)
  else
    some ((-1 : Int32), ξ_3)
set_option maxHeartbeats 4000000 in
set_option maxRecDepth 100000 in
theorem tX0_setCapacitoru (l : Launch) (D : va_G) (d : Nat → ClassId) (z : ZT) (b : Nat → Nat) (fl : Option Nat) (K : Nat) (p0 : Int32) (μ : XS) (r : Int32) (μ' : XS) (hf : fX0_setCapacitoru K p0 μ = some (r, μ')) : CI l yX0_setCapacitor (ws_ yX0_setCapacitor cX0_setCapacitor 3 (Option.some Jvm.ClassFile.FieldType.int)) (rmc 2 0 0 42) D d z [.ref (b 0), .int p0] (XU d z b fl μ) r (XU d z b fl μ') := by
  refine CI.of2 (own := RX0) rfl (by decide) (Nat.le_of_ble_eq_true rfl) rfl ?_
  intro p e s m args below meth c A Q ls S hin hK hP hD hZ hS hA hl hret0
  have hret : ∀ (x : Int32) (μx : XS) (H : Heap) (locs : List Loc) (pc : Nat) (ls' : Array Slot), some (x, μx) = some (r, μ') → decode cX0_setCapacitor pc = .ok (.ireturn, 1) → va_P D CL (XU d z b fl μx) H → va_D A (XU d z b fl μx) → va_S A s.heap H locs → W p l e (rmc 2 0 0 42) s m args below meth c H locs 0 0 Q (F0 m pc ls' [.int x]) := by
    intro x μx H locs pc ls' h9 hdg hP hD hS
    obtain ⟨rfl, rfl⟩ := so_2 h9
    exact hret0 H locs pc ls' hdg hP hD hS
  have hx := S.1
  have hb := S.2.1
  have hts := S.2.2.2.2
  have hl : lv_has ls 3 [(0, .ref (b 0)), (1, .int p0)] := hl
  unfold fX0_setCapacitoru at hf
  refine lv_aload_n hx hb dX0_setCapacitor_0 rfl (lv_at hl 0 rfl) ?_
  obtain ⟨r_2, ξ_3, h_1, hf⟩ := b2_some hf
  refine runW_i (va_runV (As := []) (rest := []) S (tX0_isReadyu l D d z b fl K μ r_2 ξ_3 h_1 _) (cwV 0 hts (lw_V q857 q859 qs18 q94 q860) rfl rfl rfl (by decide +kernel) ⟨(Nat.le_of_ble_eq_true rfl), (Nat.le_of_ble_eq_true rfl)⟩) ⟨Pw.blind, (va_recv hK.1 hP (ci := 1) (q0 := 0) rfl rfl), fun U hU hW => Pw.at hK hP hD hZ hS hA hU hW⟩ rfl rfl hl.1 rfl (lv_room (Nat.le_of_ble_eq_true rfl)) dX0_setCapacitor_1 ⟨(Nat.le_of_ble_eq_true rfl), (Nat.le_of_ble_eq_true rfl)⟩) hP hD hS hA ?_
  clear hP hD hS
  intro H locs hP hD hS
  clear h_1
  refine lv_if_eq (tgt := 14) hx hb dX0_setCapacitor_4 (by decide) (fun c_4 => ?_) (fun c_4 => ?_)
  · replace hf := it_f hf (bi_e0 c_4)
    clear c_4
    refine lv_iconst (v := -1) hx hb dX0_setCapacitor_14 (by decide) ?_
    refine W.widen (k := 0) (n := 0) (Nat.le_of_ble_eq_true rfl) (Nat.le_of_ble_eq_true rfl) ?_
    exact hret _ _ _ _ _ _ hf dX0_setCapacitor_15 hP hD hS
  · replace hf := it_t hf (bi_n0 c_4)
    clear c_4
    refine lv_iload_n hx hb dX0_setCapacitor_7 rfl (lv_at hl 1 rfl) ?_
    obtain ⟨r_5, h_6, hf⟩ := b1_some hf
    refine si_call S (tX0_isSetting l K p0 _ h_6) (va_cwS 1 hts (lw_S q1060 q1061 q94 q1062) rfl rfl rfl (by decide +kernel) ⟨(Nat.le_of_ble_eq_true rfl), (Nat.le_of_ble_eq_true rfl)⟩) rfl hl.1 rfl (Nat.le_of_ble_eq_true rfl) ⟨(Nat.le_of_ble_eq_true rfl), (Nat.le_of_ble_eq_true rfl)⟩ dX0_setCapacitor_8 ?_
    clear h_6
    refine lv_if_ne (tgt := 16) hx hb dX0_setCapacitor_11 (by decide) (fun c_7 => ?_) (fun c_7 => ?_)
    · replace hf := it_t hf (bi_n0 c_7)
      clear c_7
      cases hf
    · replace hf := it_f hf (bi_e0 c_7)
      clear c_7
      refine lv_iconst (v := -1) hx hb dX0_setCapacitor_14 (by decide) ?_
      refine W.widen (k := 0) (n := 0) (Nat.le_of_ble_eq_true rfl) (Nat.le_of_ble_eq_true rfl) ?_
      exact hret _ _ _ _ _ _ hf dX0_setCapacitor_15 hP hD hS
def fX0_relaysTou (K : Nat) (p0 : Int32) (p1 : Int32) (p2 : Int32) (μ : XS) : Option (Int32 × XS) :=
  b2 (fX0_areSettingsu K p0 p1 p2 μ) fun r_2 ξ_3 =>
  if r_2 = true then
    none
  else
    some ((-1 : Int32), ξ_3)
set_option maxHeartbeats 4000000 in
set_option maxRecDepth 100000 in
theorem tX0_relaysTou (l : Launch) (D : va_G) (d : Nat → ClassId) (z : ZT) (b : Nat → Nat) (fl : Option Nat) (K : Nat) (p0 : Int32) (p1 : Int32) (p2 : Int32) (μ : XS) (r : Int32) (μ' : XS) (hf : fX0_relaysTou K p0 p1 p2 μ = some (r, μ')) : CI l yX0_relaysTo (ws_ yX0_relaysTo cX0_relaysTo 4 (Option.some Jvm.ClassFile.FieldType.int)) (rmc 3 1 3 65) D d z [.ref (b 0), .int p0, .int p1, .int p2] (XU d z b fl μ) r (XU d z b fl μ') := by
  refine CI.of2 (own := RX0) rfl (by decide) (Nat.le_of_ble_eq_true rfl) rfl ?_
  intro p e s m args below meth c A Q ls S hin hK hP hD hZ hS hA hl hret0
  have hret : ∀ (x : Int32) (μx : XS) (H : Heap) (locs : List Loc) (pc : Nat) (ls' : Array Slot), some (x, μx) = some (r, μ') → decode cX0_relaysTo pc = .ok (.ireturn, 1) → va_P D CL (XU d z b fl μx) H → va_D A (XU d z b fl μx) → va_S A s.heap H locs → W p l e (rmc 3 1 3 65) s m args below meth c H locs 1 3 Q (F0 m pc ls' [.int x]) := by
    intro x μx H locs pc ls' h9 hdg hP hD hS
    obtain ⟨rfl, rfl⟩ := so_2 h9
    exact hret0 H locs pc ls' hdg hP hD hS
  have hx := S.1
  have hb := S.2.1
  have hts := S.2.2.2.2
  have hl : lv_has ls 4 [(0, .ref (b 0)), (1, .int p0), (2, .int p1), (3, .int p2)] := hl
  unfold fX0_relaysTou at hf
  refine lv_aload_n hx hb dX0_relaysTo_0 rfl (lv_at hl 0 rfl) ?_
  refine lv_iload_n hx hb dX0_relaysTo_1 rfl (lv_at hl 1 rfl) ?_
  refine lv_iload_n hx hb dX0_relaysTo_2 rfl (lv_at hl 2 rfl) ?_
  refine lv_iload_n hx hb dX0_relaysTo_3 rfl (lv_at hl 3 rfl) ?_
  obtain ⟨r_2, ξ_3, h_1, hf⟩ := b2_some hf
  refine runW_i (va_runV (As := [.int p0, .int p1, .int p2]) (rest := []) S (tX0_areSettingsu l D d z b fl K p0 p1 p2 μ r_2 ξ_3 h_1 _) (cwV 3 hts (lw_V q1079 q1081 qs29 q94 q1082) rfl rfl rfl (by decide +kernel) ⟨(Nat.le_of_ble_eq_true rfl), (Nat.le_of_ble_eq_true rfl)⟩) ⟨Pw.blind, (va_recv hK.1 hP (ci := 1) (q0 := 0) rfl rfl), fun U hU hW => Pw.at hK hP hD hZ hS hA hU hW⟩ rfl rfl hl.1 rfl (lv_room (Nat.le_of_ble_eq_true rfl)) dX0_relaysTo_4 ⟨(Nat.le_of_ble_eq_true rfl), (Nat.le_of_ble_eq_true rfl)⟩) hP hD hS hA ?_
  clear hP hD hS
  intro H locs hP hD hS
  clear h_1
  refine lv_if_eq (tgt := 37) hx hb dX0_relaysTo_7 (by decide) (fun c_4 => ?_) (fun c_4 => ?_)
  · replace hf := it_f hf (bi_e0 c_4)
    clear c_4
    refine lv_iconst (v := -1) hx hb dX0_relaysTo_37 (by decide) ?_
    refine W.widen (k := 1) (n := 3) (Nat.le_of_ble_eq_true rfl) (Nat.le_of_ble_eq_true rfl) ?_
    exact hret _ _ _ _ _ _ hf dX0_relaysTo_38 hP hD hS
  · replace hf := it_t hf (bi_n0 c_4)
    clear c_4
    cases hf
def fX0_transmitu (K : Nat) (p0 : Int32) (μ : XS) : Option (Int32 × XS) :=
  b2 (fX0_isReadyu K μ) fun r_2 ξ_3 =>
  if r_2 = true then
    b1 (fX0_isIn K p0 (1 : Int32) (50 : Int32)) fun r_5 =>
    if r_5 = true then
      none
    else
      some ((-1 : Int32), ξ_3)
  else
    some ((-1 : Int32), ξ_3)
set_option maxHeartbeats 4000000 in
set_option maxRecDepth 100000 in
theorem tX0_transmitu (l : Launch) (D : va_G) (d : Nat → ClassId) (z : ZT) (b : Nat → Nat) (fl : Option Nat) (K : Nat) (p0 : Int32) (μ : XS) (r : Int32) (μ' : XS) (hf : fX0_transmitu K p0 μ = some (r, μ')) : CI l yX0_transmit (ws_ yX0_transmit cX0_transmit 7 (Option.some Jvm.ClassFile.FieldType.int)) (rmc 1 0 0 22) D d z [.ref (b 0), .int p0] (XU d z b fl μ) r (XU d z b fl μ') := by
  refine CI.of2 (own := RX0) rfl (by decide) (Nat.le_of_ble_eq_true rfl) rfl ?_
  intro p e s m args below meth c A Q ls S hin hK hP hD hZ hS hA hl hret0
  have hret : ∀ (x : Int32) (μx : XS) (H : Heap) (locs : List Loc) (pc : Nat) (ls' : Array Slot), some (x, μx) = some (r, μ') → decode cX0_transmit pc = .ok (.ireturn, 1) → va_P D CL (XU d z b fl μx) H → va_D A (XU d z b fl μx) → va_S A s.heap H locs → W p l e (rmc 1 0 0 22) s m args below meth c H locs 0 0 Q (F0 m pc ls' [.int x]) := by
    intro x μx H locs pc ls' h9 hdg hP hD hS
    obtain ⟨rfl, rfl⟩ := so_2 h9
    exact hret0 H locs pc ls' hdg hP hD hS
  have hx := S.1
  have hb := S.2.1
  have hts := S.2.2.2.2
  have hl : lv_has ls 7 [(0, .ref (b 0)), (1, .int p0)] := hl
  unfold fX0_transmitu at hf
  refine lv_aload_n hx hb dX0_transmit_0 rfl (lv_at hl 0 rfl) ?_
  obtain ⟨r_2, ξ_3, h_1, hf⟩ := b2_some hf
  refine runW_i (va_runV (As := []) (rest := []) S (tX0_isReadyu l D d z b fl K μ r_2 ξ_3 h_1 _) (cwV 0 hts (lw_V q857 q859 qs18 q94 q860) rfl rfl rfl (by decide +kernel) ⟨(Nat.le_of_ble_eq_true rfl), (Nat.le_of_ble_eq_true rfl)⟩) ⟨Pw.blind, (va_recv hK.1 hP (ci := 1) (q0 := 0) rfl rfl), fun U hU hW => Pw.at hK hP hD hZ hS hA hU hW⟩ rfl rfl hl.1 rfl (lv_room (Nat.le_of_ble_eq_true rfl)) dX0_transmit_1 ⟨(Nat.le_of_ble_eq_true rfl), (Nat.le_of_ble_eq_true rfl)⟩) hP hD hS hA ?_
  clear hP hD hS
  intro H locs hP hD hS
  clear h_1
  refine lv_if_eq (tgt := 17) hx hb dX0_transmit_4 (by decide) (fun c_4 => ?_) (fun c_4 => ?_)
  · replace hf := it_f hf (bi_e0 c_4)
    clear c_4
    refine lv_iconst (v := -1) hx hb dX0_transmit_17 (by decide) ?_
    refine W.widen (k := 0) (n := 0) (Nat.le_of_ble_eq_true rfl) (Nat.le_of_ble_eq_true rfl) ?_
    exact hret _ _ _ _ _ _ hf dX0_transmit_18 hP hD hS
  · replace hf := it_t hf (bi_n0 c_4)
    clear c_4
    refine lv_iload_n hx hb dX0_transmit_7 rfl (lv_at hl 1 rfl) ?_
    refine lv_iconst (v := 1) hx hb dX0_transmit_8 (by decide) ?_
    refine lv_bipush (v := 50) hx hb dX0_transmit_9 (by decide) ?_
    obtain ⟨r_5, h_6, hf⟩ := b1_some hf
    refine si_call S (tX0_isIn l K p0 (1 : Int32) (50 : Int32) _ h_6) (va_cwS 3 hts (lw_S q331 q332 q94 q333) rfl rfl rfl (by decide +kernel) ⟨(Nat.le_of_ble_eq_true rfl), (Nat.le_of_ble_eq_true rfl)⟩) rfl hl.1 rfl (Nat.le_of_ble_eq_true rfl) ⟨(Nat.le_of_ble_eq_true rfl), (Nat.le_of_ble_eq_true rfl)⟩ dX0_transmit_11 ?_
    clear h_6
    refine lv_if_ne (tgt := 19) hx hb dX0_transmit_14 (by decide) (fun c_7 => ?_) (fun c_7 => ?_)
    · replace hf := it_t hf (bi_n0 c_7)
      clear c_7
      cases hf
    · replace hf := it_f hf (bi_e0 c_7)
      clear c_7
      refine lv_iconst (v := -1) hx hb dX0_transmit_17 (by decide) ?_
      refine W.widen (k := 0) (n := 0) (Nat.le_of_ble_eq_true rfl) (Nat.le_of_ble_eq_true rfl) ?_
      exact hret _ _ _ _ _ _ hf dX0_transmit_18 hP hD hS
def fX0_tuneu (K : Nat) (μ : XS) : Option (Int32 × XS) :=
  b2 (fX0_isReadyu K μ) fun r_2 ξ_3 =>
  if r_2 = true then
    none
  else
    some ((-1 : Int32), ξ_3)
set_option maxHeartbeats 4000000 in
set_option maxRecDepth 100000 in
theorem tX0_tuneu (l : Launch) (D : va_G) (d : Nat → ClassId) (z : ZT) (b : Nat → Nat) (fl : Option Nat) (K : Nat) (μ : XS) (r : Int32) (μ' : XS) (hf : fX0_tuneu K μ = some (r, μ')) : CI l yX0_tune (ws_ yX0_tune cX0_tune 1 (Option.some Jvm.ClassFile.FieldType.int)) (rmc 1 0 0 20) D d z [.ref (b 0)] (XU d z b fl μ) r (XU d z b fl μ') := by
  refine CI.of2 (own := RX0) rfl (by decide) (Nat.le_of_ble_eq_true rfl) rfl ?_
  intro p e s m args below meth c A Q ls S hin hK hP hD hZ hS hA hl hret0
  have hret : ∀ (x : Int32) (μx : XS) (H : Heap) (locs : List Loc) (pc : Nat) (ls' : Array Slot), some (x, μx) = some (r, μ') → decode cX0_tune pc = .ok (.ireturn, 1) → va_P D CL (XU d z b fl μx) H → va_D A (XU d z b fl μx) → va_S A s.heap H locs → W p l e (rmc 1 0 0 20) s m args below meth c H locs 0 0 Q (F0 m pc ls' [.int x]) := by
    intro x μx H locs pc ls' h9 hdg hP hD hS
    obtain ⟨rfl, rfl⟩ := so_2 h9
    exact hret0 H locs pc ls' hdg hP hD hS
  have hx := S.1
  have hb := S.2.1
  have hts := S.2.2.2.2
  have hl : lv_has ls 1 [(0, .ref (b 0))] := hl
  unfold fX0_tuneu at hf
  refine lv_aload_n hx hb dX0_tune_0 rfl (lv_at hl 0 rfl) ?_
  obtain ⟨r_2, ξ_3, h_1, hf⟩ := b2_some hf
  refine runW_i (va_runV (As := []) (rest := []) S (tX0_isReadyu l D d z b fl K μ r_2 ξ_3 h_1 _) (cwV 0 hts (lw_V q857 q859 qs18 q94 q860) rfl rfl rfl (by decide +kernel) ⟨(Nat.le_of_ble_eq_true rfl), (Nat.le_of_ble_eq_true rfl)⟩) ⟨Pw.blind, (va_recv hK.1 hP (ci := 1) (q0 := 0) rfl rfl), fun U hU hW => Pw.at hK hP hD hZ hS hA hU hW⟩ rfl rfl hl.1 rfl (lv_room (Nat.le_of_ble_eq_true rfl)) dX0_tune_1 ⟨(Nat.le_of_ble_eq_true rfl), (Nat.le_of_ble_eq_true rfl)⟩) hP hD hS hA ?_
  clear hP hD hS
  intro H locs hP hD hS
  clear h_1
  refine lv_if_eq (tgt := 21) hx hb dX0_tune_4 (by decide) (fun c_4 => ?_) (fun c_4 => ?_)
  · replace hf := it_f hf (bi_e0 c_4)
    clear c_4
    refine lv_iconst (v := -1) hx hb dX0_tune_21 (by decide) ?_
    refine W.widen (k := 0) (n := 0) (Nat.le_of_ble_eq_true rfl) (Nat.le_of_ble_eq_true rfl) ?_
    exact hret _ _ _ _ _ _ hf dX0_tune_22 hP hD hS
  · replace hf := it_t hf (bi_n0 c_4)
    clear c_4
    cases hf
def fX0_tuneColdu (K : Nat) (μ : XS) : Option (Int32 × XS) :=
  b2 (fX0_isReadyu K μ) fun r_2 ξ_3 =>
  if r_2 = true then
    none
  else
    some ((-1 : Int32), ξ_3)
set_option maxHeartbeats 4000000 in
set_option maxRecDepth 100000 in
theorem tX0_tuneColdu (l : Launch) (D : va_G) (d : Nat → ClassId) (z : ZT) (b : Nat → Nat) (fl : Option Nat) (K : Nat) (μ : XS) (r : Int32) (μ' : XS) (hf : fX0_tuneColdu K μ = some (r, μ')) : CI l yX0_tuneCold (ws_ yX0_tuneCold cX0_tuneCold 1 (Option.some Jvm.ClassFile.FieldType.int)) (rmc 1 0 0 20) D d z [.ref (b 0)] (XU d z b fl μ) r (XU d z b fl μ') := by
  refine CI.of2 (own := RX0) rfl (by decide) (Nat.le_of_ble_eq_true rfl) rfl ?_
  intro p e s m args below meth c A Q ls S hin hK hP hD hZ hS hA hl hret0
  have hret : ∀ (x : Int32) (μx : XS) (H : Heap) (locs : List Loc) (pc : Nat) (ls' : Array Slot), some (x, μx) = some (r, μ') → decode cX0_tuneCold pc = .ok (.ireturn, 1) → va_P D CL (XU d z b fl μx) H → va_D A (XU d z b fl μx) → va_S A s.heap H locs → W p l e (rmc 1 0 0 20) s m args below meth c H locs 0 0 Q (F0 m pc ls' [.int x]) := by
    intro x μx H locs pc ls' h9 hdg hP hD hS
    obtain ⟨rfl, rfl⟩ := so_2 h9
    exact hret0 H locs pc ls' hdg hP hD hS
  have hx := S.1
  have hb := S.2.1
  have hts := S.2.2.2.2
  have hl : lv_has ls 1 [(0, .ref (b 0))] := hl
  unfold fX0_tuneColdu at hf
  refine lv_aload_n hx hb dX0_tuneCold_0 rfl (lv_at hl 0 rfl) ?_
  obtain ⟨r_2, ξ_3, h_1, hf⟩ := b2_some hf
  refine runW_i (va_runV (As := []) (rest := []) S (tX0_isReadyu l D d z b fl K μ r_2 ξ_3 h_1 _) (cwV 0 hts (lw_V q857 q859 qs18 q94 q860) rfl rfl rfl (by decide +kernel) ⟨(Nat.le_of_ble_eq_true rfl), (Nat.le_of_ble_eq_true rfl)⟩) ⟨Pw.blind, (va_recv hK.1 hP (ci := 1) (q0 := 0) rfl rfl), fun U hU hW => Pw.at hK hP hD hZ hS hA hU hW⟩ rfl rfl hl.1 rfl (lv_room (Nat.le_of_ble_eq_true rfl)) dX0_tuneCold_1 ⟨(Nat.le_of_ble_eq_true rfl), (Nat.le_of_ble_eq_true rfl)⟩) hP hD hS hA ?_
  clear hP hD hS
  intro H locs hP hD hS
  clear h_1
  refine lv_if_eq (tgt := 15) hx hb dX0_tuneCold_4 (by decide) (fun c_4 => ?_) (fun c_4 => ?_)
  · replace hf := it_f hf (bi_e0 c_4)
    clear c_4
    refine lv_iconst (v := -1) hx hb dX0_tuneCold_15 (by decide) ?_
    refine W.widen (k := 0) (n := 0) (Nat.le_of_ble_eq_true rfl) (Nat.le_of_ble_eq_true rfl) ?_
    exact hret _ _ _ _ _ _ hf dX0_tuneCold_16 hP hD hS
  · replace hf := it_t hf (bi_n0 c_4)
    clear c_4
    cases hf
def fX0_tuneFromMemoryu (K : Nat) (μ : XS) : Option (Int32 × XS) :=
  b2 (fX0_isReadyu K μ) fun r_2 ξ_3 =>
  if r_2 = true then
    none
  else
    some ((-1 : Int32), ξ_3)
set_option maxHeartbeats 4000000 in
set_option maxRecDepth 100000 in
theorem tX0_tuneFromMemoryu (l : Launch) (D : va_G) (d : Nat → ClassId) (z : ZT) (b : Nat → Nat) (fl : Option Nat) (K : Nat) (μ : XS) (r : Int32) (μ' : XS) (hf : fX0_tuneFromMemoryu K μ = some (r, μ')) : CI l yX0_tuneFromMemory (wsW_ yX0_tuneFromMemory cX0_tuneFromMemory 2 (Option.some Jvm.ClassFile.FieldType.int) [((9 : Nat), (52 : Nat), (53 : Nat), (357 : Nat))]) (rmc 1 0 0 20) D d z [.ref (b 0)] (XU d z b fl μ) r (XU d z b fl μ') := by
  refine CI.ofH (own := RX0) rfl (by decide) (Nat.le_of_ble_eq_true rfl) rfl ?_
  intro p e s m args below meth c A Q ls S hin htab hK hP hD hZ hS hA hl hret0
  have hret : ∀ (x : Int32) (μx : XS) (H : Heap) (locs : List Loc) (pc : Nat) (ls' : Array Slot), some (x, μx) = some (r, μ') → decode cX0_tuneFromMemory pc = .ok (.ireturn, 1) → va_P D CL (XU d z b fl μx) H → va_D A (XU d z b fl μx) → va_S A s.heap H locs → W p l e (rmc 1 0 0 20) s m args below meth c H locs 0 0 Q (F0 m pc ls' [.int x]) := by
    intro x μx H locs pc ls' h9 hdg hP hD hS
    obtain ⟨rfl, rfl⟩ := so_2 h9
    exact hret0 H locs pc ls' hdg hP hD hS
  have hx := S.1
  have hb := S.2.1
  have hts := S.2.2.2.2
  have hl : lv_has ls 2 [(0, .ref (b 0))] := hl
  unfold fX0_tuneFromMemoryu at hf
  refine lv_aload_n hx hb dX0_tuneFromMemory_0 rfl (lv_at hl 0 rfl) ?_
  obtain ⟨r_2, ξ_3, h_1, hf⟩ := b2_some hf
  refine runW_i (va_runV (As := []) (rest := []) S (tX0_isReadyu l D d z b fl K μ r_2 ξ_3 h_1 _) (cwV 0 hts (lw_V q857 q859 qs18 q94 q860) rfl rfl rfl (by decide +kernel) ⟨(Nat.le_of_ble_eq_true rfl), (Nat.le_of_ble_eq_true rfl)⟩) ⟨Pw.blind, (va_recv hK.1 hP (ci := 1) (q0 := 0) rfl rfl), fun U hU hW => Pw.at hK hP hD hZ hS hA hU hW⟩ rfl rfl hl.1 rfl (lv_room (Nat.le_of_ble_eq_true rfl)) dX0_tuneFromMemory_1 ⟨(Nat.le_of_ble_eq_true rfl), (Nat.le_of_ble_eq_true rfl)⟩) hP hD hS hA ?_
  clear hP hD hS
  intro H locs hP hD hS
  clear h_1
  refine lv_if_ne (tgt := 9) hx hb dX0_tuneFromMemory_4 (by decide) (fun c_4 => ?_) (fun c_4 => ?_)
  · replace hf := it_t hf (bi_n0 c_4)
    clear c_4
    cases hf
  · replace hf := it_f hf (bi_e0 c_4)
    clear c_4
    refine lv_iconst (v := -1) hx hb dX0_tuneFromMemory_7 (by decide) ?_
    refine W.widen (k := 0) (n := 0) (Nat.le_of_ble_eq_true rfl) (Nat.le_of_ble_eq_true rfl) ?_
    exact hret _ _ _ _ _ _ hf dX0_tuneFromMemory_8 hP hD hS
def fX0_storeu (K : Nat) (μ : XS) : Option (Int32 × XS) :=
  b2 (fX0_isReadyu K μ) fun r_2 ξ_3 =>
  if r_2 = true then
    none
  else
    some ((-1 : Int32), ξ_3)
set_option maxHeartbeats 4000000 in
set_option maxRecDepth 100000 in
theorem tX0_storeu (l : Launch) (D : va_G) (d : Nat → ClassId) (z : ZT) (b : Nat → Nat) (fl : Option Nat) (K : Nat) (μ : XS) (r : Int32) (μ' : XS) (hf : fX0_storeu K μ = some (r, μ')) : CI l yX0_store (ws_ yX0_store cX0_store 4 (Option.some Jvm.ClassFile.FieldType.int)) (rmc 1 0 0 20) D d z [.ref (b 0)] (XU d z b fl μ) r (XU d z b fl μ') := by
  refine CI.of2 (own := RX0) rfl (by decide) (Nat.le_of_ble_eq_true rfl) rfl ?_
  intro p e s m args below meth c A Q ls S hin hK hP hD hZ hS hA hl hret0
  have hret : ∀ (x : Int32) (μx : XS) (H : Heap) (locs : List Loc) (pc : Nat) (ls' : Array Slot), some (x, μx) = some (r, μ') → decode cX0_store pc = .ok (.ireturn, 1) → va_P D CL (XU d z b fl μx) H → va_D A (XU d z b fl μx) → va_S A s.heap H locs → W p l e (rmc 1 0 0 20) s m args below meth c H locs 0 0 Q (F0 m pc ls' [.int x]) := by
    intro x μx H locs pc ls' h9 hdg hP hD hS
    obtain ⟨rfl, rfl⟩ := so_2 h9
    exact hret0 H locs pc ls' hdg hP hD hS
  have hx := S.1
  have hb := S.2.1
  have hts := S.2.2.2.2
  have hl : lv_has ls 4 [(0, .ref (b 0))] := hl
  unfold fX0_storeu at hf
  refine lv_aload_n hx hb dX0_store_0 rfl (lv_at hl 0 rfl) ?_
  obtain ⟨r_2, ξ_3, h_1, hf⟩ := b2_some hf
  refine runW_i (va_runV (As := []) (rest := []) S (tX0_isReadyu l D d z b fl K μ r_2 ξ_3 h_1 _) (cwV 0 hts (lw_V q857 q859 qs18 q94 q860) rfl rfl rfl (by decide +kernel) ⟨(Nat.le_of_ble_eq_true rfl), (Nat.le_of_ble_eq_true rfl)⟩) ⟨Pw.blind, (va_recv hK.1 hP (ci := 1) (q0 := 0) rfl rfl), fun U hU hW => Pw.at hK hP hD hZ hS hA hU hW⟩ rfl rfl hl.1 rfl (lv_room (Nat.le_of_ble_eq_true rfl)) dX0_store_1 ⟨(Nat.le_of_ble_eq_true rfl), (Nat.le_of_ble_eq_true rfl)⟩) hP hD hS hA ?_
  clear hP hD hS
  intro H locs hP hD hS
  clear h_1
  refine lv_if_ne (tgt := 9) hx hb dX0_store_4 (by decide) (fun c_4 => ?_) (fun c_4 => ?_)
  · replace hf := it_t hf (bi_n0 c_4)
    clear c_4
    cases hf
  · replace hf := it_f hf (bi_e0 c_4)
    clear c_4
    refine lv_iconst (v := -1) hx hb dX0_store_7 (by decide) ?_
    refine W.widen (k := 0) (n := 0) (Nat.le_of_ble_eq_true rfl) (Nat.le_of_ble_eq_true rfl) ?_
    exact hret _ _ _ _ _ _ hf dX0_store_8 hP hD hS
def fX0_recallu (K : Nat) (μ : XS) : Option (Int32 × XS) :=
  b2 (fX0_isReadyu K μ) fun r_2 ξ_3 =>
  if r_2 = true then
    none
  else
    some ((-1 : Int32), ξ_3)
set_option maxHeartbeats 4000000 in
set_option maxRecDepth 100000 in
theorem tX0_recallu (l : Launch) (D : va_G) (d : Nat → ClassId) (z : ZT) (b : Nat → Nat) (fl : Option Nat) (K : Nat) (μ : XS) (r : Int32) (μ' : XS) (hf : fX0_recallu K μ = some (r, μ')) : CI l yX0_recall (wsW_ yX0_recall cX0_recall 3 (Option.some Jvm.ClassFile.FieldType.int) [((9 : Nat), (14 : Nat), (17 : Nat), (357 : Nat))]) (rmc 1 0 0 20) D d z [.ref (b 0)] (XU d z b fl μ) r (XU d z b fl μ') := by
  refine CI.ofH (own := RX0) rfl (by decide) (Nat.le_of_ble_eq_true rfl) rfl ?_
  intro p e s m args below meth c A Q ls S hin htab hK hP hD hZ hS hA hl hret0
  have hret : ∀ (x : Int32) (μx : XS) (H : Heap) (locs : List Loc) (pc : Nat) (ls' : Array Slot), some (x, μx) = some (r, μ') → decode cX0_recall pc = .ok (.ireturn, 1) → va_P D CL (XU d z b fl μx) H → va_D A (XU d z b fl μx) → va_S A s.heap H locs → W p l e (rmc 1 0 0 20) s m args below meth c H locs 0 0 Q (F0 m pc ls' [.int x]) := by
    intro x μx H locs pc ls' h9 hdg hP hD hS
    obtain ⟨rfl, rfl⟩ := so_2 h9
    exact hret0 H locs pc ls' hdg hP hD hS
  have hx := S.1
  have hb := S.2.1
  have hts := S.2.2.2.2
  have hl : lv_has ls 3 [(0, .ref (b 0))] := hl
  unfold fX0_recallu at hf
  refine lv_aload_n hx hb dX0_recall_0 rfl (lv_at hl 0 rfl) ?_
  obtain ⟨r_2, ξ_3, h_1, hf⟩ := b2_some hf
  refine runW_i (va_runV (As := []) (rest := []) S (tX0_isReadyu l D d z b fl K μ r_2 ξ_3 h_1 _) (cwV 0 hts (lw_V q857 q859 qs18 q94 q860) rfl rfl rfl (by decide +kernel) ⟨(Nat.le_of_ble_eq_true rfl), (Nat.le_of_ble_eq_true rfl)⟩) ⟨Pw.blind, (va_recv hK.1 hP (ci := 1) (q0 := 0) rfl rfl), fun U hU hW => Pw.at hK hP hD hZ hS hA hU hW⟩ rfl rfl hl.1 rfl (lv_room (Nat.le_of_ble_eq_true rfl)) dX0_recall_1 ⟨(Nat.le_of_ble_eq_true rfl), (Nat.le_of_ble_eq_true rfl)⟩) hP hD hS hA ?_
  clear hP hD hS
  intro H locs hP hD hS
  clear h_1
  refine lv_if_ne (tgt := 9) hx hb dX0_recall_4 (by decide) (fun c_4 => ?_) (fun c_4 => ?_)
  · replace hf := it_t hf (bi_n0 c_4)
    clear c_4
    cases hf
  · replace hf := it_f hf (bi_e0 c_4)
    clear c_4
    refine lv_iconst (v := -1) hx hb dX0_recall_7 (by decide) ?_
    refine W.widen (k := 0) (n := 0) (Nat.le_of_ble_eq_true rfl) (Nat.le_of_ble_eq_true rfl) ?_
    exact hret _ _ _ _ _ _ hf dX0_recall_8 hP hD hS
def fX0_forgetu (K : Nat) (p0 : Int32) (μ : XS) : Option (Int32 × XS) :=
  b2 (fX0_isEntryu K p0 μ) fun r_2 ξ_3 =>
  if r_2 = true then
    none
  else
    some ((-1 : Int32), ξ_3)
set_option maxHeartbeats 4000000 in
set_option maxRecDepth 100000 in
theorem tX0_forgetu (l : Launch) (D : va_G) (d : Nat → ClassId) (z : ZT) (b : Nat → Nat) (fl : Option Nat) (K : Nat) (p0 : Int32) (μ : XS) (r : Int32) (μ' : XS) (hf : fX0_forgetu K p0 μ = some (r, μ')) : CI l yX0_forget (ws_ yX0_forget cX0_forget 2 (Option.some Jvm.ClassFile.FieldType.int)) (rmc 2 0 0 41) D d z [.ref (b 0), .int p0] (XU d z b fl μ) r (XU d z b fl μ') := by
  refine CI.of2 (own := RX0) rfl (by decide) (Nat.le_of_ble_eq_true rfl) rfl ?_
  intro p e s m args below meth c A Q ls S hin hK hP hD hZ hS hA hl hret0
  have hret : ∀ (x : Int32) (μx : XS) (H : Heap) (locs : List Loc) (pc : Nat) (ls' : Array Slot), some (x, μx) = some (r, μ') → decode cX0_forget pc = .ok (.ireturn, 1) → va_P D CL (XU d z b fl μx) H → va_D A (XU d z b fl μx) → va_S A s.heap H locs → W p l e (rmc 2 0 0 41) s m args below meth c H locs 0 0 Q (F0 m pc ls' [.int x]) := by
    intro x μx H locs pc ls' h9 hdg hP hD hS
    obtain ⟨rfl, rfl⟩ := so_2 h9
    exact hret0 H locs pc ls' hdg hP hD hS
  have hx := S.1
  have hb := S.2.1
  have hts := S.2.2.2.2
  have hl : lv_has ls 2 [(0, .ref (b 0)), (1, .int p0)] := hl
  unfold fX0_forgetu at hf
  refine lv_aload_n hx hb dX0_forget_0 rfl (lv_at hl 0 rfl) ?_
  refine lv_iload_n hx hb dX0_forget_1 rfl (lv_at hl 1 rfl) ?_
  obtain ⟨r_2, ξ_3, h_1, hf⟩ := b2_some hf
  refine runW_i (va_runV (As := [.int p0]) (rest := []) S (tX0_isEntryu l D d z b fl K p0 μ r_2 ξ_3 h_1 _) (cwV 1 hts (lw_V q1547 q1549 qs47 q94 q1550) rfl rfl rfl (by decide +kernel) ⟨(Nat.le_of_ble_eq_true rfl), (Nat.le_of_ble_eq_true rfl)⟩) ⟨Pw.blind, (va_recv hK.1 hP (ci := 1) (q0 := 0) rfl rfl), fun U hU hW => Pw.at hK hP hD hZ hS hA hU hW⟩ rfl rfl hl.1 rfl (lv_room (Nat.le_of_ble_eq_true rfl)) dX0_forget_2 ⟨(Nat.le_of_ble_eq_true rfl), (Nat.le_of_ble_eq_true rfl)⟩) hP hD hS hA ?_
  clear hP hD hS
  intro H locs hP hD hS
  clear h_1
  refine lv_if_ne (tgt := 10) hx hb dX0_forget_5 (by decide) (fun c_4 => ?_) (fun c_4 => ?_)
  · replace hf := it_t hf (bi_n0 c_4)
    clear c_4
    cases hf
  · replace hf := it_f hf (bi_e0 c_4)
    clear c_4
    refine lv_iconst (v := -1) hx hb dX0_forget_8 (by decide) ?_
    refine W.widen (k := 0) (n := 0) (Nat.le_of_ble_eq_true rfl) (Nat.le_of_ble_eq_true rfl) ?_
    exact hret _ _ _ _ _ _ hf dX0_forget_9 hP hD hS
def fX0_memoryCountu (K : Nat) (μ : XS) : Option (Int32 × XS) :=
  b2 (fX0_isReadyu K μ) fun r_2 ξ_3 =>
  if r_2 = true then
    none
  else
    some ((-1 : Int32), ξ_3)
set_option maxHeartbeats 4000000 in
set_option maxRecDepth 100000 in
theorem tX0_memoryCountu (l : Launch) (D : va_G) (d : Nat → ClassId) (z : ZT) (b : Nat → Nat) (fl : Option Nat) (K : Nat) (μ : XS) (r : Int32) (μ' : XS) (hf : fX0_memoryCountu K μ = some (r, μ')) : CI l yX0_memoryCount (ws_ yX0_memoryCount cX0_memoryCount 1 (Option.some Jvm.ClassFile.FieldType.int)) (rmc 1 0 0 20) D d z [.ref (b 0)] (XU d z b fl μ) r (XU d z b fl μ') := by
  refine CI.of2 (own := RX0) rfl (by decide) (Nat.le_of_ble_eq_true rfl) rfl ?_
  intro p e s m args below meth c A Q ls S hin hK hP hD hZ hS hA hl hret0
  have hret : ∀ (x : Int32) (μx : XS) (H : Heap) (locs : List Loc) (pc : Nat) (ls' : Array Slot), some (x, μx) = some (r, μ') → decode cX0_memoryCount pc = .ok (.ireturn, 1) → va_P D CL (XU d z b fl μx) H → va_D A (XU d z b fl μx) → va_S A s.heap H locs → W p l e (rmc 1 0 0 20) s m args below meth c H locs 0 0 Q (F0 m pc ls' [.int x]) := by
    intro x μx H locs pc ls' h9 hdg hP hD hS
    obtain ⟨rfl, rfl⟩ := so_2 h9
    exact hret0 H locs pc ls' hdg hP hD hS
  have hx := S.1
  have hb := S.2.1
  have hts := S.2.2.2.2
  have hl : lv_has ls 1 [(0, .ref (b 0))] := hl
  unfold fX0_memoryCountu at hf
  refine lv_aload_n hx hb dX0_memoryCount_0 rfl (lv_at hl 0 rfl) ?_
  obtain ⟨r_2, ξ_3, h_1, hf⟩ := b2_some hf
  refine runW_i (va_runV (As := []) (rest := []) S (tX0_isReadyu l D d z b fl K μ r_2 ξ_3 h_1 _) (cwV 0 hts (lw_V q857 q859 qs18 q94 q860) rfl rfl rfl (by decide +kernel) ⟨(Nat.le_of_ble_eq_true rfl), (Nat.le_of_ble_eq_true rfl)⟩) ⟨Pw.blind, (va_recv hK.1 hP (ci := 1) (q0 := 0) rfl rfl), fun U hU hW => Pw.at hK hP hD hZ hS hA hU hW⟩ rfl rfl hl.1 rfl (lv_room (Nat.le_of_ble_eq_true rfl)) dX0_memoryCount_1 ⟨(Nat.le_of_ble_eq_true rfl), (Nat.le_of_ble_eq_true rfl)⟩) hP hD hS hA ?_
  clear hP hD hS
  intro H locs hP hD hS
  clear h_1
  refine lv_if_eq (tgt := 20) hx hb dX0_memoryCount_4 (by decide) (fun c_4 => ?_) (fun c_4 => ?_)
  · replace hf := it_f hf (bi_e0 c_4)
    clear c_4
    refine lv_iconst (v := -1) hx hb dX0_memoryCount_20 (by decide) ?_
    refine W.widen (k := 0) (n := 0) (Nat.le_of_ble_eq_true rfl) (Nat.le_of_ble_eq_true rfl) ?_
    exact hret _ _ _ _ _ _ hf dX0_memoryCount_21 hP hD hS
  · replace hf := it_t hf (bi_n0 c_4)
    clear c_4
    cases hf
def fX0_memoryFrequencyu (K : Nat) (p0 : Int32) (μ : XS) : Option (Int32 × XS) :=
  b2 (fX0_isEntryu K p0 μ) fun r_2 ξ_3 =>
  if r_2 = true then
    none
  else
    some ((-1 : Int32), ξ_3)
set_option maxHeartbeats 4000000 in
set_option maxRecDepth 100000 in
theorem tX0_memoryFrequencyu (l : Launch) (D : va_G) (d : Nat → ClassId) (z : ZT) (b : Nat → Nat) (fl : Option Nat) (K : Nat) (p0 : Int32) (μ : XS) (r : Int32) (μ' : XS) (hf : fX0_memoryFrequencyu K p0 μ = some (r, μ')) : CI l yX0_memoryFrequency (ws_ yX0_memoryFrequency cX0_memoryFrequency 2 (Option.some Jvm.ClassFile.FieldType.int)) (rmc 2 0 0 41) D d z [.ref (b 0), .int p0] (XU d z b fl μ) r (XU d z b fl μ') := by
  refine CI.of2 (own := RX0) rfl (by decide) (Nat.le_of_ble_eq_true rfl) rfl ?_
  intro p e s m args below meth c A Q ls S hin hK hP hD hZ hS hA hl hret0
  have hret : ∀ (x : Int32) (μx : XS) (H : Heap) (locs : List Loc) (pc : Nat) (ls' : Array Slot), some (x, μx) = some (r, μ') → decode cX0_memoryFrequency pc = .ok (.ireturn, 1) → va_P D CL (XU d z b fl μx) H → va_D A (XU d z b fl μx) → va_S A s.heap H locs → W p l e (rmc 2 0 0 41) s m args below meth c H locs 0 0 Q (F0 m pc ls' [.int x]) := by
    intro x μx H locs pc ls' h9 hdg hP hD hS
    obtain ⟨rfl, rfl⟩ := so_2 h9
    exact hret0 H locs pc ls' hdg hP hD hS
  have hx := S.1
  have hb := S.2.1
  have hts := S.2.2.2.2
  have hl : lv_has ls 2 [(0, .ref (b 0)), (1, .int p0)] := hl
  unfold fX0_memoryFrequencyu at hf
  refine lv_aload_n hx hb dX0_memoryFrequency_0 rfl (lv_at hl 0 rfl) ?_
  refine lv_iload_n hx hb dX0_memoryFrequency_1 rfl (lv_at hl 1 rfl) ?_
  obtain ⟨r_2, ξ_3, h_1, hf⟩ := b2_some hf
  refine runW_i (va_runV (As := [.int p0]) (rest := []) S (tX0_isEntryu l D d z b fl K p0 μ r_2 ξ_3 h_1 _) (cwV 1 hts (lw_V q1547 q1549 qs47 q94 q1550) rfl rfl rfl (by decide +kernel) ⟨(Nat.le_of_ble_eq_true rfl), (Nat.le_of_ble_eq_true rfl)⟩) ⟨Pw.blind, (va_recv hK.1 hP (ci := 1) (q0 := 0) rfl rfl), fun U hU hW => Pw.at hK hP hD hZ hS hA hU hW⟩ rfl rfl hl.1 rfl (lv_room (Nat.le_of_ble_eq_true rfl)) dX0_memoryFrequency_2 ⟨(Nat.le_of_ble_eq_true rfl), (Nat.le_of_ble_eq_true rfl)⟩) hP hD hS hA ?_
  clear hP hD hS
  intro H locs hP hD hS
  clear h_1
  refine lv_if_eq (tgt := 28) hx hb dX0_memoryFrequency_5 (by decide) (fun c_4 => ?_) (fun c_4 => ?_)
  · replace hf := it_f hf (bi_e0 c_4)
    clear c_4
    refine lv_iconst (v := -1) hx hb dX0_memoryFrequency_28 (by decide) ?_
    refine W.widen (k := 0) (n := 0) (Nat.le_of_ble_eq_true rfl) (Nat.le_of_ble_eq_true rfl) ?_
    exact hret _ _ _ _ _ _ hf dX0_memoryFrequency_29 hP hD hS
  · replace hf := it_t hf (bi_n0 c_4)
    clear c_4
    cases hf
def fX0_memorySettingsu (K : Nat) (p0 : Int32) (μ : XS) : Option (Int32 × XS) :=
  b2 (fX0_isEntryu K p0 μ) fun r_2 ξ_3 =>
  if r_2 = true then
    none
  else
    some ((-1 : Int32), ξ_3)
set_option maxHeartbeats 4000000 in
set_option maxRecDepth 100000 in
theorem tX0_memorySettingsu (l : Launch) (D : va_G) (d : Nat → ClassId) (z : ZT) (b : Nat → Nat) (fl : Option Nat) (K : Nat) (p0 : Int32) (μ : XS) (r : Int32) (μ' : XS) (hf : fX0_memorySettingsu K p0 μ = some (r, μ')) : CI l yX0_memorySettings (ws_ yX0_memorySettings cX0_memorySettings 2 (Option.some Jvm.ClassFile.FieldType.int)) (rmc 2 0 0 41) D d z [.ref (b 0), .int p0] (XU d z b fl μ) r (XU d z b fl μ') := by
  refine CI.of2 (own := RX0) rfl (by decide) (Nat.le_of_ble_eq_true rfl) rfl ?_
  intro p e s m args below meth c A Q ls S hin hK hP hD hZ hS hA hl hret0
  have hret : ∀ (x : Int32) (μx : XS) (H : Heap) (locs : List Loc) (pc : Nat) (ls' : Array Slot), some (x, μx) = some (r, μ') → decode cX0_memorySettings pc = .ok (.ireturn, 1) → va_P D CL (XU d z b fl μx) H → va_D A (XU d z b fl μx) → va_S A s.heap H locs → W p l e (rmc 2 0 0 41) s m args below meth c H locs 0 0 Q (F0 m pc ls' [.int x]) := by
    intro x μx H locs pc ls' h9 hdg hP hD hS
    obtain ⟨rfl, rfl⟩ := so_2 h9
    exact hret0 H locs pc ls' hdg hP hD hS
  have hx := S.1
  have hb := S.2.1
  have hts := S.2.2.2.2
  have hl : lv_has ls 2 [(0, .ref (b 0)), (1, .int p0)] := hl
  unfold fX0_memorySettingsu at hf
  refine lv_aload_n hx hb dX0_memorySettings_0 rfl (lv_at hl 0 rfl) ?_
  refine lv_iload_n hx hb dX0_memorySettings_1 rfl (lv_at hl 1 rfl) ?_
  obtain ⟨r_2, ξ_3, h_1, hf⟩ := b2_some hf
  refine runW_i (va_runV (As := [.int p0]) (rest := []) S (tX0_isEntryu l D d z b fl K p0 μ r_2 ξ_3 h_1 _) (cwV 1 hts (lw_V q1547 q1549 qs47 q94 q1550) rfl rfl rfl (by decide +kernel) ⟨(Nat.le_of_ble_eq_true rfl), (Nat.le_of_ble_eq_true rfl)⟩) ⟨Pw.blind, (va_recv hK.1 hP (ci := 1) (q0 := 0) rfl rfl), fun U hU hW => Pw.at hK hP hD hZ hS hA hU hW⟩ rfl rfl hl.1 rfl (lv_room (Nat.le_of_ble_eq_true rfl)) dX0_memorySettings_2 ⟨(Nat.le_of_ble_eq_true rfl), (Nat.le_of_ble_eq_true rfl)⟩) hP hD hS hA ?_
  clear hP hD hS
  intro H locs hP hD hS
  clear h_1
  refine lv_if_eq (tgt := 28) hx hb dX0_memorySettings_5 (by decide) (fun c_4 => ?_) (fun c_4 => ?_)
  · replace hf := it_f hf (bi_e0 c_4)
    clear c_4
    refine lv_iconst (v := -1) hx hb dX0_memorySettings_28 (by decide) ?_
    refine W.widen (k := 0) (n := 0) (Nat.le_of_ble_eq_true rfl) (Nat.le_of_ble_eq_true rfl) ?_
    exact hret _ _ _ _ _ _ hf dX0_memorySettings_29 hP hD hS
  · replace hf := it_t hf (bi_n0 c_4)
    clear c_4
    cases hf
def fX0_memorySwru (K : Nat) (p0 : Int32) (μ : XS) : Option (Int32 × XS) :=
  b2 (fX0_isEntryu K p0 μ) fun r_2 ξ_3 =>
  if r_2 = true then
    none
  else
    some ((-1 : Int32), ξ_3)
set_option maxHeartbeats 4000000 in
set_option maxRecDepth 100000 in
theorem tX0_memorySwru (l : Launch) (D : va_G) (d : Nat → ClassId) (z : ZT) (b : Nat → Nat) (fl : Option Nat) (K : Nat) (p0 : Int32) (μ : XS) (r : Int32) (μ' : XS) (hf : fX0_memorySwru K p0 μ = some (r, μ')) : CI l yX0_memorySwr (ws_ yX0_memorySwr cX0_memorySwr 2 (Option.some Jvm.ClassFile.FieldType.int)) (rmc 2 0 0 41) D d z [.ref (b 0), .int p0] (XU d z b fl μ) r (XU d z b fl μ') := by
  refine CI.of2 (own := RX0) rfl (by decide) (Nat.le_of_ble_eq_true rfl) rfl ?_
  intro p e s m args below meth c A Q ls S hin hK hP hD hZ hS hA hl hret0
  have hret : ∀ (x : Int32) (μx : XS) (H : Heap) (locs : List Loc) (pc : Nat) (ls' : Array Slot), some (x, μx) = some (r, μ') → decode cX0_memorySwr pc = .ok (.ireturn, 1) → va_P D CL (XU d z b fl μx) H → va_D A (XU d z b fl μx) → va_S A s.heap H locs → W p l e (rmc 2 0 0 41) s m args below meth c H locs 0 0 Q (F0 m pc ls' [.int x]) := by
    intro x μx H locs pc ls' h9 hdg hP hD hS
    obtain ⟨rfl, rfl⟩ := so_2 h9
    exact hret0 H locs pc ls' hdg hP hD hS
  have hx := S.1
  have hb := S.2.1
  have hts := S.2.2.2.2
  have hl : lv_has ls 2 [(0, .ref (b 0)), (1, .int p0)] := hl
  unfold fX0_memorySwru at hf
  refine lv_aload_n hx hb dX0_memorySwr_0 rfl (lv_at hl 0 rfl) ?_
  refine lv_iload_n hx hb dX0_memorySwr_1 rfl (lv_at hl 1 rfl) ?_
  obtain ⟨r_2, ξ_3, h_1, hf⟩ := b2_some hf
  refine runW_i (va_runV (As := [.int p0]) (rest := []) S (tX0_isEntryu l D d z b fl K p0 μ r_2 ξ_3 h_1 _) (cwV 1 hts (lw_V q1547 q1549 qs47 q94 q1550) rfl rfl rfl (by decide +kernel) ⟨(Nat.le_of_ble_eq_true rfl), (Nat.le_of_ble_eq_true rfl)⟩) ⟨Pw.blind, (va_recv hK.1 hP (ci := 1) (q0 := 0) rfl rfl), fun U hU hW => Pw.at hK hP hD hZ hS hA hU hW⟩ rfl rfl hl.1 rfl (lv_room (Nat.le_of_ble_eq_true rfl)) dX0_memorySwr_2 ⟨(Nat.le_of_ble_eq_true rfl), (Nat.le_of_ble_eq_true rfl)⟩) hP hD hS hA ?_
  clear hP hD hS
  intro H locs hP hD hS
  clear h_1
  refine lv_if_eq (tgt := 28) hx hb dX0_memorySwr_5 (by decide) (fun c_4 => ?_) (fun c_4 => ?_)
  · replace hf := it_f hf (bi_e0 c_4)
    clear c_4
    refine lv_iconst (v := -1) hx hb dX0_memorySwr_28 (by decide) ?_
    refine W.widen (k := 0) (n := 0) (Nat.le_of_ble_eq_true rfl) (Nat.le_of_ble_eq_true rfl) ?_
    exact hret _ _ _ _ _ _ hf dX0_memorySwr_29 hP hD hS
  · replace hf := it_t hf (bi_n0 c_4)
    clear c_4
    cases hf
def fX0_undou (K : Nat) (μ : XS) : Option (Int32 × XS) :=
  b2 (fX0_isReadyu K μ) fun r_2 ξ_3 =>
  if r_2 = true then
    none
  else
    some ((-1 : Int32), ξ_3)
set_option maxHeartbeats 4000000 in
set_option maxRecDepth 100000 in
theorem tX0_undou (l : Launch) (D : va_G) (d : Nat → ClassId) (z : ZT) (b : Nat → Nat) (fl : Option Nat) (K : Nat) (μ : XS) (r : Int32) (μ' : XS) (hf : fX0_undou K μ = some (r, μ')) : CI l yX0_undo (ws_ yX0_undo cX0_undo 1 (Option.some Jvm.ClassFile.FieldType.int)) (rmc 1 0 0 20) D d z [.ref (b 0)] (XU d z b fl μ) r (XU d z b fl μ') := by
  refine CI.of2 (own := RX0) rfl (by decide) (Nat.le_of_ble_eq_true rfl) rfl ?_
  intro p e s m args below meth c A Q ls S hin hK hP hD hZ hS hA hl hret0
  have hret : ∀ (x : Int32) (μx : XS) (H : Heap) (locs : List Loc) (pc : Nat) (ls' : Array Slot), some (x, μx) = some (r, μ') → decode cX0_undo pc = .ok (.ireturn, 1) → va_P D CL (XU d z b fl μx) H → va_D A (XU d z b fl μx) → va_S A s.heap H locs → W p l e (rmc 1 0 0 20) s m args below meth c H locs 0 0 Q (F0 m pc ls' [.int x]) := by
    intro x μx H locs pc ls' h9 hdg hP hD hS
    obtain ⟨rfl, rfl⟩ := so_2 h9
    exact hret0 H locs pc ls' hdg hP hD hS
  have hx := S.1
  have hb := S.2.1
  have hts := S.2.2.2.2
  have hl : lv_has ls 1 [(0, .ref (b 0))] := hl
  unfold fX0_undou at hf
  refine lv_aload_n hx hb dX0_undo_0 rfl (lv_at hl 0 rfl) ?_
  obtain ⟨r_2, ξ_3, h_1, hf⟩ := b2_some hf
  refine runW_i (va_runV (As := []) (rest := []) S (tX0_isReadyu l D d z b fl K μ r_2 ξ_3 h_1 _) (cwV 0 hts (lw_V q857 q859 qs18 q94 q860) rfl rfl rfl (by decide +kernel) ⟨(Nat.le_of_ble_eq_true rfl), (Nat.le_of_ble_eq_true rfl)⟩) ⟨Pw.blind, (va_recv hK.1 hP (ci := 1) (q0 := 0) rfl rfl), fun U hU hW => Pw.at hK hP hD hZ hS hA hU hW⟩ rfl rfl hl.1 rfl (lv_room (Nat.le_of_ble_eq_true rfl)) dX0_undo_1 ⟨(Nat.le_of_ble_eq_true rfl), (Nat.le_of_ble_eq_true rfl)⟩) hP hD hS hA ?_
  clear hP hD hS
  intro H locs hP hD hS
  clear h_1
  refine lv_if_ne (tgt := 9) hx hb dX0_undo_4 (by decide) (fun c_4 => ?_) (fun c_4 => ?_)
  · replace hf := it_t hf (bi_n0 c_4)
    clear c_4
    cases hf
  · replace hf := it_f hf (bi_e0 c_4)
    clear c_4
    refine lv_iconst (v := -1) hx hb dX0_undo_7 (by decide) ?_
    refine W.widen (k := 0) (n := 0) (Nat.le_of_ble_eq_true rfl) (Nat.le_of_ble_eq_true rfl) ?_
    exact hret _ _ _ _ _ _ hf dX0_undo_8 hP hD hS
def fX0_failureDepthu (K : Nat) (μ : XS) : Option (Int32 × XS) :=
  b2 (fX0_isReadyu K μ) fun r_2 ξ_3 =>
  if r_2 = true then
    none
  else
    some ((-1 : Int32), ξ_3)
set_option maxHeartbeats 4000000 in
set_option maxRecDepth 100000 in
theorem tX0_failureDepthu (l : Launch) (D : va_G) (d : Nat → ClassId) (z : ZT) (b : Nat → Nat) (fl : Option Nat) (K : Nat) (μ : XS) (r : Int32) (μ' : XS) (hf : fX0_failureDepthu K μ = some (r, μ')) : CI l yX0_failureDepth (ws_ yX0_failureDepth cX0_failureDepth 3 (Option.some Jvm.ClassFile.FieldType.int)) (rmc 1 0 0 20) D d z [.ref (b 0)] (XU d z b fl μ) r (XU d z b fl μ') := by
  refine CI.of2 (own := RX0) rfl (by decide) (Nat.le_of_ble_eq_true rfl) rfl ?_
  intro p e s m args below meth c A Q ls S hin hK hP hD hZ hS hA hl hret0
  have hret : ∀ (x : Int32) (μx : XS) (H : Heap) (locs : List Loc) (pc : Nat) (ls' : Array Slot), some (x, μx) = some (r, μ') → decode cX0_failureDepth pc = .ok (.ireturn, 1) → va_P D CL (XU d z b fl μx) H → va_D A (XU d z b fl μx) → va_S A s.heap H locs → W p l e (rmc 1 0 0 20) s m args below meth c H locs 0 0 Q (F0 m pc ls' [.int x]) := by
    intro x μx H locs pc ls' h9 hdg hP hD hS
    obtain ⟨rfl, rfl⟩ := so_2 h9
    exact hret0 H locs pc ls' hdg hP hD hS
  have hx := S.1
  have hb := S.2.1
  have hts := S.2.2.2.2
  have hl : lv_has ls 3 [(0, .ref (b 0))] := hl
  unfold fX0_failureDepthu at hf
  refine lv_aload_n hx hb dX0_failureDepth_0 rfl (lv_at hl 0 rfl) ?_
  obtain ⟨r_2, ξ_3, h_1, hf⟩ := b2_some hf
  refine runW_i (va_runV (As := []) (rest := []) S (tX0_isReadyu l D d z b fl K μ r_2 ξ_3 h_1 _) (cwV 0 hts (lw_V q857 q859 qs18 q94 q860) rfl rfl rfl (by decide +kernel) ⟨(Nat.le_of_ble_eq_true rfl), (Nat.le_of_ble_eq_true rfl)⟩) ⟨Pw.blind, (va_recv hK.1 hP (ci := 1) (q0 := 0) rfl rfl), fun U hU hW => Pw.at hK hP hD hZ hS hA hU hW⟩ rfl rfl hl.1 rfl (lv_room (Nat.le_of_ble_eq_true rfl)) dX0_failureDepth_1 ⟨(Nat.le_of_ble_eq_true rfl), (Nat.le_of_ble_eq_true rfl)⟩) hP hD hS hA ?_
  clear hP hD hS
  intro H locs hP hD hS
  clear h_1
  refine lv_if_ne (tgt := 9) hx hb dX0_failureDepth_4 (by decide) (fun c_4 => ?_) (fun c_4 => ?_)
  · replace hf := it_t hf (bi_n0 c_4)
    clear c_4
    cases hf
  · replace hf := it_f hf (bi_e0 c_4)
    clear c_4
    refine lv_iconst (v := -1) hx hb dX0_failureDepth_7 (by decide) ?_
    refine W.widen (k := 0) (n := 0) (Nat.le_of_ble_eq_true rfl) (Nat.le_of_ble_eq_true rfl) ?_
    exact hret _ _ _ _ _ _ hf dX0_failureDepth_8 hP hD hS
def fX0_failureKindu_L16 (K : Nat) (μ16 : XS) : Option (Int32 × XS) :=
  some ((-1 : Int32), μ16)
def fX0_failureKindu (K : Nat) (p0 : Int32) (μ : XS) : Option (Int32 × XS) :=
  b2 (fX0_isReadyu K μ) fun r_2 ξ_3 =>
  if r_2 = true then
    none
  else
    fX0_failureKindu_L16 K ξ_3
set_option maxHeartbeats 4000000 in
set_option maxRecDepth 100000 in
theorem tX0_failureKindu (l : Launch) (D : va_G) (d : Nat → ClassId) (z : ZT) (b : Nat → Nat) (fl : Option Nat) (K : Nat) (p0 : Int32) (μ : XS) (r : Int32) (μ' : XS) (hf : fX0_failureKindu K p0 μ = some (r, μ')) : CI l yX0_failureKind (ws_ yX0_failureKind cX0_failureKind 3 (Option.some Jvm.ClassFile.FieldType.int)) (rmc 1 0 0 20) D d z [.ref (b 0), .int p0] (XU d z b fl μ) r (XU d z b fl μ') := by
  refine CI.of2 (own := RX0) rfl (by decide) (Nat.le_of_ble_eq_true rfl) rfl ?_
  intro p e s m args below meth c A Q ls S hin hK hP hD hZ hS hA hl hret0
  have hret : ∀ (x : Int32) (μx : XS) (H : Heap) (locs : List Loc) (pc : Nat) (ls' : Array Slot), some (x, μx) = some (r, μ') → decode cX0_failureKind pc = .ok (.ireturn, 1) → va_P D CL (XU d z b fl μx) H → va_D A (XU d z b fl μx) → va_S A s.heap H locs → W p l e (rmc 1 0 0 20) s m args below meth c H locs 0 0 Q (F0 m pc ls' [.int x]) := by
    intro x μx H locs pc ls' h9 hdg hP hD hS
    obtain ⟨rfl, rfl⟩ := so_2 h9
    exact hret0 H locs pc ls' hdg hP hD hS
  have hx := S.1
  have hb := S.2.1
  have hts := S.2.2.2.2
  have hl : lv_has ls 3 [(0, .ref (b 0)), (1, .int p0)] := hl
  have L16 : ∀ (μ16 : XS) (H : Heap) (locs : List Loc) (ls : Array Slot), fX0_failureKindu_L16 K μ16 = some (r, μ') → va_P D CL (XU d z b fl μ16) H → va_D A (XU d z b fl μ16) → va_S A s.heap H locs → lv_has ls 3 [] → W p l e (rmc 1 0 0 20) s m args below meth c H locs 0 0 Q (F0 m 16 ls [.null]) := by
    intro μ16 H locs ls hf hP hD hS hl
    unfold fX0_failureKindu_L16 at hf
    refine lv_astore_nN (lv' := [(2, .null)]) hx hb dX0_failureKind_16 rfl hl (by decide) rfl (fun ls hl => ?_)
    refine lv_aload_nN hx hb dX0_failureKind_17 rfl (lv_at hl 0 rfl) ?_
    refine lv_ifnonnullN hx hb dX0_failureKind_18 ?_
    refine lv_iconst (v := -1) hx hb dX0_failureKind_21 (by decide) ?_
    refine lv_goto (tgt := 29) hx hb dX0_failureKind_22 (by decide) ?_
    refine W.widen (k := 0) (n := 0) (Nat.le_of_ble_eq_true rfl) (Nat.le_of_ble_eq_true rfl) ?_
    exact hret _ _ _ _ _ _ hf dX0_failureKind_29 hP hD hS
  unfold fX0_failureKindu at hf
  refine lv_aload_n hx hb dX0_failureKind_0 rfl (lv_at hl 0 rfl) ?_
  obtain ⟨r_2, ξ_3, h_1, hf⟩ := b2_some hf
  refine runW_i (va_runV (As := []) (rest := []) S (tX0_isReadyu l D d z b fl K μ r_2 ξ_3 h_1 _) (cwV 0 hts (lw_V q857 q859 qs18 q94 q860) rfl rfl rfl (by decide +kernel) ⟨(Nat.le_of_ble_eq_true rfl), (Nat.le_of_ble_eq_true rfl)⟩) ⟨Pw.blind, (va_recv hK.1 hP (ci := 1) (q0 := 0) rfl rfl), fun U hU hW => Pw.at hK hP hD hZ hS hA hU hW⟩ rfl rfl hl.1 rfl (lv_room (Nat.le_of_ble_eq_true rfl)) dX0_failureKind_1 ⟨(Nat.le_of_ble_eq_true rfl), (Nat.le_of_ble_eq_true rfl)⟩) hP hD hS hA ?_
  clear hP hD hS
  intro H locs hP hD hS
  clear h_1
  refine lv_if_eq (tgt := 15) hx hb dX0_failureKind_4 (by decide) (fun c_4 => ?_) (fun c_4 => ?_)
  · replace hf := it_f hf (bi_e0 c_4)
    clear c_4
    refine lv_null hx hb dX0_failureKind_15 ?_
    exact L16 ξ_3 _ _ _ hf hP hD hS (lv_sub hl [] rfl)
  · replace hf := it_t hf (bi_n0 c_4)
    clear c_4
    cases hf
def fX0_failureValueu_L16 (K : Nat) (μ16 : XS) : Option (Int32 × XS) :=
  some ((-1 : Int32), μ16)
def fX0_failureValueu (K : Nat) (p0 : Int32) (μ : XS) : Option (Int32 × XS) :=
  b2 (fX0_isReadyu K μ) fun r_2 ξ_3 =>
  if r_2 = true then
    none
  else
    fX0_failureValueu_L16 K ξ_3
set_option maxHeartbeats 4000000 in
set_option maxRecDepth 100000 in
theorem tX0_failureValueu (l : Launch) (D : va_G) (d : Nat → ClassId) (z : ZT) (b : Nat → Nat) (fl : Option Nat) (K : Nat) (p0 : Int32) (μ : XS) (r : Int32) (μ' : XS) (hf : fX0_failureValueu K p0 μ = some (r, μ')) : CI l yX0_failureValue (ws_ yX0_failureValue cX0_failureValue 3 (Option.some Jvm.ClassFile.FieldType.int)) (rmc 1 0 0 20) D d z [.ref (b 0), .int p0] (XU d z b fl μ) r (XU d z b fl μ') := by
  refine CI.of2 (own := RX0) rfl (by decide) (Nat.le_of_ble_eq_true rfl) rfl ?_
  intro p e s m args below meth c A Q ls S hin hK hP hD hZ hS hA hl hret0
  have hret : ∀ (x : Int32) (μx : XS) (H : Heap) (locs : List Loc) (pc : Nat) (ls' : Array Slot), some (x, μx) = some (r, μ') → decode cX0_failureValue pc = .ok (.ireturn, 1) → va_P D CL (XU d z b fl μx) H → va_D A (XU d z b fl μx) → va_S A s.heap H locs → W p l e (rmc 1 0 0 20) s m args below meth c H locs 0 0 Q (F0 m pc ls' [.int x]) := by
    intro x μx H locs pc ls' h9 hdg hP hD hS
    obtain ⟨rfl, rfl⟩ := so_2 h9
    exact hret0 H locs pc ls' hdg hP hD hS
  have hx := S.1
  have hb := S.2.1
  have hts := S.2.2.2.2
  have hl : lv_has ls 3 [(0, .ref (b 0)), (1, .int p0)] := hl
  have L16 : ∀ (μ16 : XS) (H : Heap) (locs : List Loc) (ls : Array Slot), fX0_failureValueu_L16 K μ16 = some (r, μ') → va_P D CL (XU d z b fl μ16) H → va_D A (XU d z b fl μ16) → va_S A s.heap H locs → lv_has ls 3 [] → W p l e (rmc 1 0 0 20) s m args below meth c H locs 0 0 Q (F0 m 16 ls [.null]) := by
    intro μ16 H locs ls hf hP hD hS hl
    unfold fX0_failureValueu_L16 at hf
    refine lv_astore_nN (lv' := [(2, .null)]) hx hb dX0_failureValue_16 rfl hl (by decide) rfl (fun ls hl => ?_)
    refine lv_aload_nN hx hb dX0_failureValue_17 rfl (lv_at hl 0 rfl) ?_
    refine lv_ifnonnullN hx hb dX0_failureValue_18 ?_
    refine lv_iconst (v := -1) hx hb dX0_failureValue_21 (by decide) ?_
    refine lv_goto (tgt := 29) hx hb dX0_failureValue_22 (by decide) ?_
    refine W.widen (k := 0) (n := 0) (Nat.le_of_ble_eq_true rfl) (Nat.le_of_ble_eq_true rfl) ?_
    exact hret _ _ _ _ _ _ hf dX0_failureValue_29 hP hD hS
  unfold fX0_failureValueu at hf
  refine lv_aload_n hx hb dX0_failureValue_0 rfl (lv_at hl 0 rfl) ?_
  obtain ⟨r_2, ξ_3, h_1, hf⟩ := b2_some hf
  refine runW_i (va_runV (As := []) (rest := []) S (tX0_isReadyu l D d z b fl K μ r_2 ξ_3 h_1 _) (cwV 0 hts (lw_V q857 q859 qs18 q94 q860) rfl rfl rfl (by decide +kernel) ⟨(Nat.le_of_ble_eq_true rfl), (Nat.le_of_ble_eq_true rfl)⟩) ⟨Pw.blind, (va_recv hK.1 hP (ci := 1) (q0 := 0) rfl rfl), fun U hU hW => Pw.at hK hP hD hZ hS hA hU hW⟩ rfl rfl hl.1 rfl (lv_room (Nat.le_of_ble_eq_true rfl)) dX0_failureValue_1 ⟨(Nat.le_of_ble_eq_true rfl), (Nat.le_of_ble_eq_true rfl)⟩) hP hD hS hA ?_
  clear hP hD hS
  intro H locs hP hD hS
  clear h_1
  refine lv_if_eq (tgt := 15) hx hb dX0_failureValue_4 (by decide) (fun c_4 => ?_) (fun c_4 => ?_)
  · replace hf := it_f hf (bi_e0 c_4)
    clear c_4
    refine lv_null hx hb dX0_failureValue_15 ?_
    exact L16 ξ_3 _ _ _ hf hP hD hS (lv_sub hl [] rfl)
  · replace hf := it_t hf (bi_n0 c_4)
    clear c_4
    cases hf
