/-! the public methods that only ask -/
set_option maxRecDepth 100000
def fX0_antennaResistance (K : Nat) (p0 : Int32) (μ : XS) : Option (Int64 × XS) :=
  b2 (fX0_isReady K μ) fun r_2 ξ_3 =>
  if r_2 = true then
    b1 (fX0_isFrequency K p0) fun r_5 =>
    if r_5 = true then
      b1 (fX6_resistance K p0 ξ_3) fun r_9 =>
      some (r_9, ξ_3)
    else
      some ((-1 : Int64), ξ_3)
  else
    some ((-1 : Int64), ξ_3)
set_option maxHeartbeats 4000000 in
set_option maxRecDepth 100000 in
theorem tX0_antennaResistance (l : Launch) (D : va_G) (d : Nat → ClassId) (z : ZT) (b : Nat → Nat) (fl : Option Nat) (K : Nat) (p0 : Int32) (μ : XS) (r : Int64) (μ' : XS) (hf : fX0_antennaResistance K p0 μ = some (r, μ')) : CJ l yX0_antennaResistance (ws_ yX0_antennaResistance cX0_antennaResistance 2 (Option.some Jvm.ClassFile.FieldType.long)) (rmc 2 0 0 44) D d z [.ref (b 0), .int p0] (XP d z b fl μ) r (XP d z b fl μ') := by
  refine CJ.of2 (own := RX0) rfl (by decide) (Nat.le_of_ble_eq_true rfl) ?_
  intro p e s m args below meth c A Q ls S hin hK hP hD hZ hS hA hl hret0
  have hret : ∀ (x : Int64) (μx : XS) (H : Heap) (locs : List Loc) (pc : Nat) (ls' : Array Slot), some (x, μx) = some (r, μ') → decode cX0_antennaResistance pc = .ok (.lreturn, 1) → va_P D CL (XP d z b fl μx) H → va_D A (XP d z b fl μx) → va_S A s.heap H locs → W p l e (rmc 2 0 0 44) s m args below meth c H locs 0 0 Q (F0 m pc ls' [.long x]) := by
    intro x μx H locs pc ls' h9 hdg hP hD hS
    obtain ⟨rfl, rfl⟩ := so_2 h9
    exact hret0 H locs pc ls' hdg hP hD hS
  have hx := S.1
  have hb := S.2.1
  have hts := S.2.2.2.2
  have hl : lv_has ls 2 [(0, .ref (b 0)), (1, .int p0)] := hl
  unfold fX0_antennaResistance at hf
  refine lv_aload_n hx hb dX0_antennaResistance_0 rfl (lv_at hl 0 rfl) ?_
  obtain ⟨r_2, ξ_3, h_1, hf⟩ := b2_some hf
  refine runW_i (va_runV (As := []) (rest := []) S (tX0_isReady l D d z b fl K μ r_2 ξ_3 h_1 _) (cwV 0 hts (lw_V q857 q859 qs18 q94 q860) rfl rfl rfl (by decide +kernel) ⟨(Nat.le_of_ble_eq_true rfl), (Nat.le_of_ble_eq_true rfl)⟩) ⟨Pw.blind, (va_recv hK.1 hP (ci := 1) (q0 := 0) rfl rfl), fun U hU hW => Pw.at hK hP hD hZ hS hA hU hW⟩ rfl rfl hl.1 rfl (lv_room (Nat.le_of_ble_eq_true rfl)) dX0_antennaResistance_1 ⟨(Nat.le_of_ble_eq_true rfl), (Nat.le_of_ble_eq_true rfl)⟩) hP hD hS hA ?_
  clear hP hD hS
  intro H locs hP hD hS
  clear h_1
  refine lv_if_eq (tgt := 25) hx hb dX0_antennaResistance_4 (by decide) (fun c_4 => ?_) (fun c_4 => ?_)
  · replace hf := it_f hf (bi_e0 c_4)
    clear c_4
    refine lv_ldc2 hx hb S.2.2.2.1 (hts _ q872) dX0_antennaResistance_25 ?_
    refine W.widen (k := 0) (n := 0) (Nat.le_of_ble_eq_true rfl) (Nat.le_of_ble_eq_true rfl) ?_
    exact hret _ _ _ _ _ _ hf dX0_antennaResistance_28 hP hD hS
  · replace hf := it_t hf (bi_n0 c_4)
    clear c_4
    refine lv_iload_n hx hb dX0_antennaResistance_7 rfl (lv_at hl 1 rfl) ?_
    obtain ⟨r_5, h_6, hf⟩ := b1_some hf
    refine si_call S (tX0_isFrequency l K p0 _ h_6) (va_cwS 1 hts (lw_S q861 q862 q94 q863) rfl rfl rfl (by decide +kernel) ⟨(Nat.le_of_ble_eq_true rfl), (Nat.le_of_ble_eq_true rfl)⟩) rfl hl.1 rfl (Nat.le_of_ble_eq_true rfl) ⟨(Nat.le_of_ble_eq_true rfl), (Nat.le_of_ble_eq_true rfl)⟩ dX0_antennaResistance_8 ?_
    clear h_6
    refine lv_if_eq (tgt := 25) hx hb dX0_antennaResistance_11 (by decide) (fun c_7 => ?_) (fun c_7 => ?_)
    · replace hf := it_f hf (bi_e0 c_7)
      clear c_7
      refine lv_ldc2 hx hb S.2.2.2.1 (hts _ q872) dX0_antennaResistance_25 ?_
      refine W.widen (k := 0) (n := 0) (Nat.le_of_ble_eq_true rfl) (Nat.le_of_ble_eq_true rfl) ?_
      exact hret _ _ _ _ _ _ hf dX0_antennaResistance_28 hP hD hS
    · replace hf := it_t hf (bi_n0 c_7)
      clear c_7
      refine lv_aload_n hx hb dX0_antennaResistance_14 rfl (lv_at hl 0 rfl) ?_
      refine g_get hx hb hts S.2.2.2.1 hK hP in_X0 0 rfl rfl 7 (by decide) q291 (fun _ h9 => h9) (v := .ref (b 7)) rfl dX0_antennaResistance_15 ?_
      refine lv_iload_n hx hb dX0_antennaResistance_18 rfl (lv_at hl 1 rfl) ?_
      obtain ⟨r_9, h_8, hf⟩ := b1_some hf
      refine run_j0 (wr := [(b 0, .inr (1, [.ref (b 1), .int (ξ_3.1 1), .int (ξ_3.1 2), .ref (b 2), .ref (b 3), .ref (b 4), va_rf fl, .ref (b 7), .ref (b 13), .ref (b 16), .int (ξ_3.1 10)])), (b 1, .inl (d 2, 500, .inl (ξ_3.2.2.1 1))), (b 2, .inl (d 5, 2, .inr (.inr (.inr (.inr (fun j => some (z.2.2 j))))))), (b 3, .inl (d 6, 5, .inr (.inr (.inr (.inr (fun j => some (z.2.2 (2 + j)))))))), (b 4, .inr (4, [.int (ξ_3.1 20), .long (ξ_3.2.1 21), .long (ξ_3.2.1 22), .long (ξ_3.2.1 23), .ref (b 5), .ref (b 6), .ref (b 0)])), (b 5, .inr (2, [.long (ξ_3.2.1 30), .long (ξ_3.2.1 31)])), (b 6, .inr (2, [.long (ξ_3.2.1 32), .long (ξ_3.2.1 33)])), (b 13, .inr (8, [.int (ξ_3.1 60), .int (ξ_3.1 61), .int (ξ_3.1 62), .int (ξ_3.1 63), .ref (b 14), .ref (b 15), .int (ξ_3.1 66), .ref (b 17)])), (b 14, .inl (d 0, 100, .inl (ξ_3.2.2.1 64))), (b 15, .inl (d 3, 100, .inl (ξ_3.2.2.1 65)))]) (w' := XP d z b fl ξ_3) (va_runV (As := [.int p0]) (rest := []) S (tX6_resistance l D d z b K p0 ξ_3 r_9 h_8 _) (cwV 1 hts (lw_V q864 q865 q866 q103 q867) rfl rfl rfl (by decide +kernel) ⟨(Nat.le_of_ble_eq_true rfl), (Nat.le_of_ble_eq_true rfl)⟩) ⟨Pw.blind, (va_recv hK.1 hP (ci := 6) (q0 := 7) rfl rfl), fun U hU hW => Pw.cut (tl := []) hK (by rw [List.append_nil]; exact hP) (by rw [List.append_nil]; exact hD) hZ hS hA [7, 8, 9, 10, 11, 12] rfl rfl hU hW⟩ rfl rfl hl.1 rfl (lv_room (Nat.le_of_ble_eq_true rfl)) dX0_antennaResistance_19 ⟨(Nat.le_of_ble_eq_true rfl), (Nat.le_of_ble_eq_true rfl)⟩) hP hD hS hA [7, 8, 9, 10, 11, 12] [0, 1, 2, 3, 4, 5, 6, 13, 14, 15] [0, 1, 2, 3, 4, 5, 6, 10, 11, 12, 13, 14, 15, 7, 8, 9] rfl rfl rfl rfl (by decide) rfl rfl ?_
      clear hP hD hS
      intro H locs hP hD hS
      clear h_8
      refine lv_goto (tgt := 28) hx hb dX0_antennaResistance_22 (by decide) ?_
      refine W.widen (k := 0) (n := 0) (Nat.le_of_ble_eq_true rfl) (Nat.le_of_ble_eq_true rfl) ?_
      exact hret _ _ _ _ _ _ hf dX0_antennaResistance_28 hP hD hS
def fX0_antennaReactance (K : Nat) (p0 : Int32) (μ : XS) : Option (Int64 × XS) :=
  b2 (fX0_isReady K μ) fun r_2 ξ_3 =>
  if r_2 = true then
    b1 (fX0_isFrequency K p0) fun r_5 =>
    if r_5 = true then
      b1 (fX6_reactance K p0 ξ_3) fun r_9 =>
      some (r_9, ξ_3)
    else
      some ((-9223372036854775808 : Int64), ξ_3)
  else
    some ((-9223372036854775808 : Int64), ξ_3)
set_option maxHeartbeats 4000000 in
set_option maxRecDepth 100000 in
theorem tX0_antennaReactance (l : Launch) (D : va_G) (d : Nat → ClassId) (z : ZT) (b : Nat → Nat) (fl : Option Nat) (K : Nat) (p0 : Int32) (μ : XS) (r : Int64) (μ' : XS) (hf : fX0_antennaReactance K p0 μ = some (r, μ')) : CJ l yX0_antennaReactance (ws_ yX0_antennaReactance cX0_antennaReactance 2 (Option.some Jvm.ClassFile.FieldType.long)) (rmc 2 0 0 44) D d z [.ref (b 0), .int p0] (XP d z b fl μ) r (XP d z b fl μ') := by
  refine CJ.of2 (own := RX0) rfl (by decide) (Nat.le_of_ble_eq_true rfl) ?_
  intro p e s m args below meth c A Q ls S hin hK hP hD hZ hS hA hl hret0
  have hret : ∀ (x : Int64) (μx : XS) (H : Heap) (locs : List Loc) (pc : Nat) (ls' : Array Slot), some (x, μx) = some (r, μ') → decode cX0_antennaReactance pc = .ok (.lreturn, 1) → va_P D CL (XP d z b fl μx) H → va_D A (XP d z b fl μx) → va_S A s.heap H locs → W p l e (rmc 2 0 0 44) s m args below meth c H locs 0 0 Q (F0 m pc ls' [.long x]) := by
    intro x μx H locs pc ls' h9 hdg hP hD hS
    obtain ⟨rfl, rfl⟩ := so_2 h9
    exact hret0 H locs pc ls' hdg hP hD hS
  have hx := S.1
  have hb := S.2.1
  have hts := S.2.2.2.2
  have hl : lv_has ls 2 [(0, .ref (b 0)), (1, .int p0)] := hl
  unfold fX0_antennaReactance at hf
  refine lv_aload_n hx hb dX0_antennaReactance_0 rfl (lv_at hl 0 rfl) ?_
  obtain ⟨r_2, ξ_3, h_1, hf⟩ := b2_some hf
  refine runW_i (va_runV (As := []) (rest := []) S (tX0_isReady l D d z b fl K μ r_2 ξ_3 h_1 _) (cwV 0 hts (lw_V q857 q859 qs18 q94 q860) rfl rfl rfl (by decide +kernel) ⟨(Nat.le_of_ble_eq_true rfl), (Nat.le_of_ble_eq_true rfl)⟩) ⟨Pw.blind, (va_recv hK.1 hP (ci := 1) (q0 := 0) rfl rfl), fun U hU hW => Pw.at hK hP hD hZ hS hA hU hW⟩ rfl rfl hl.1 rfl (lv_room (Nat.le_of_ble_eq_true rfl)) dX0_antennaReactance_1 ⟨(Nat.le_of_ble_eq_true rfl), (Nat.le_of_ble_eq_true rfl)⟩) hP hD hS hA ?_
  clear hP hD hS
  intro H locs hP hD hS
  clear h_1
  refine lv_if_eq (tgt := 25) hx hb dX0_antennaReactance_4 (by decide) (fun c_4 => ?_) (fun c_4 => ?_)
  · replace hf := it_f hf (bi_e0 c_4)
    clear c_4
    refine lv_ldc2 hx hb S.2.2.2.1 (hts _ q881) dX0_antennaReactance_25 ?_
    refine W.widen (k := 0) (n := 0) (Nat.le_of_ble_eq_true rfl) (Nat.le_of_ble_eq_true rfl) ?_
    exact hret _ _ _ _ _ _ hf dX0_antennaReactance_28 hP hD hS
  · replace hf := it_t hf (bi_n0 c_4)
    clear c_4
    refine lv_iload_n hx hb dX0_antennaReactance_7 rfl (lv_at hl 1 rfl) ?_
    obtain ⟨r_5, h_6, hf⟩ := b1_some hf
    refine si_call S (tX0_isFrequency l K p0 _ h_6) (va_cwS 1 hts (lw_S q861 q862 q94 q863) rfl rfl rfl (by decide +kernel) ⟨(Nat.le_of_ble_eq_true rfl), (Nat.le_of_ble_eq_true rfl)⟩) rfl hl.1 rfl (Nat.le_of_ble_eq_true rfl) ⟨(Nat.le_of_ble_eq_true rfl), (Nat.le_of_ble_eq_true rfl)⟩ dX0_antennaReactance_8 ?_
    clear h_6
    refine lv_if_eq (tgt := 25) hx hb dX0_antennaReactance_11 (by decide) (fun c_7 => ?_) (fun c_7 => ?_)
    · replace hf := it_f hf (bi_e0 c_7)
      clear c_7
      refine lv_ldc2 hx hb S.2.2.2.1 (hts _ q881) dX0_antennaReactance_25 ?_
      refine W.widen (k := 0) (n := 0) (Nat.le_of_ble_eq_true rfl) (Nat.le_of_ble_eq_true rfl) ?_
      exact hret _ _ _ _ _ _ hf dX0_antennaReactance_28 hP hD hS
    · replace hf := it_t hf (bi_n0 c_7)
      clear c_7
      refine lv_aload_n hx hb dX0_antennaReactance_14 rfl (lv_at hl 0 rfl) ?_
      refine g_get hx hb hts S.2.2.2.1 hK hP in_X0 0 rfl rfl 7 (by decide) q291 (fun _ h9 => h9) (v := .ref (b 7)) rfl dX0_antennaReactance_15 ?_
      refine lv_iload_n hx hb dX0_antennaReactance_18 rfl (lv_at hl 1 rfl) ?_
      obtain ⟨r_9, h_8, hf⟩ := b1_some hf
      refine run_j0 (wr := [(b 0, .inr (1, [.ref (b 1), .int (ξ_3.1 1), .int (ξ_3.1 2), .ref (b 2), .ref (b 3), .ref (b 4), va_rf fl, .ref (b 7), .ref (b 13), .ref (b 16), .int (ξ_3.1 10)])), (b 1, .inl (d 2, 500, .inl (ξ_3.2.2.1 1))), (b 2, .inl (d 5, 2, .inr (.inr (.inr (.inr (fun j => some (z.2.2 j))))))), (b 3, .inl (d 6, 5, .inr (.inr (.inr (.inr (fun j => some (z.2.2 (2 + j)))))))), (b 4, .inr (4, [.int (ξ_3.1 20), .long (ξ_3.2.1 21), .long (ξ_3.2.1 22), .long (ξ_3.2.1 23), .ref (b 5), .ref (b 6), .ref (b 0)])), (b 5, .inr (2, [.long (ξ_3.2.1 30), .long (ξ_3.2.1 31)])), (b 6, .inr (2, [.long (ξ_3.2.1 32), .long (ξ_3.2.1 33)])), (b 13, .inr (8, [.int (ξ_3.1 60), .int (ξ_3.1 61), .int (ξ_3.1 62), .int (ξ_3.1 63), .ref (b 14), .ref (b 15), .int (ξ_3.1 66), .ref (b 17)])), (b 14, .inl (d 0, 100, .inl (ξ_3.2.2.1 64))), (b 15, .inl (d 3, 100, .inl (ξ_3.2.2.1 65)))]) (w' := XP d z b fl ξ_3) (va_runV (As := [.int p0]) (rest := []) S (tX6_reactance l D d z b K p0 ξ_3 r_9 h_8 _) (cwV 1 hts (lw_V q877 q878 q879 q103 q880) rfl rfl rfl (by decide +kernel) ⟨(Nat.le_of_ble_eq_true rfl), (Nat.le_of_ble_eq_true rfl)⟩) ⟨Pw.blind, (va_recv hK.1 hP (ci := 6) (q0 := 7) rfl rfl), fun U hU hW => Pw.cut (tl := []) hK (by rw [List.append_nil]; exact hP) (by rw [List.append_nil]; exact hD) hZ hS hA [7, 8, 9, 10, 11, 12] rfl rfl hU hW⟩ rfl rfl hl.1 rfl (lv_room (Nat.le_of_ble_eq_true rfl)) dX0_antennaReactance_19 ⟨(Nat.le_of_ble_eq_true rfl), (Nat.le_of_ble_eq_true rfl)⟩) hP hD hS hA [7, 8, 9, 10, 11, 12] [0, 1, 2, 3, 4, 5, 6, 13, 14, 15] [0, 1, 2, 3, 4, 5, 6, 10, 11, 12, 13, 14, 15, 7, 8, 9] rfl rfl rfl rfl (by decide) rfl rfl ?_
      clear hP hD hS
      intro H locs hP hD hS
      clear h_8
      refine lv_goto (tgt := 28) hx hb dX0_antennaReactance_22 (by decide) ?_
      refine W.widen (k := 0) (n := 0) (Nat.le_of_ble_eq_true rfl) (Nat.le_of_ble_eq_true rfl) ?_
      exact hret _ _ _ _ _ _ hf dX0_antennaReactance_28 hP hD hS
def fX0_resonance_L130 (K : Nat) (k34 : Int32 → Int64 → Int32 → XS → Option (Int32 × XS)) (t130_0 : Int32) (t130_1 : Int32) (x130_5 : Int32) (x130_6 : Int64) (μ130 : XS) : Option (Int32 × XS) :=
  nm (t130_1 - t130_0) fun v_17 =>
  k34 v_17 x130_6 (x130_5 + (1 : Int32)) μ130
def fX0_resonance_L119 (K : Nat) (k34 : Int32 → Int64 → Int32 → XS → Option (Int32 × XS)) (x119_2 : Int32) (x119_5 : Int32) (x119_6 : Int64) (x119_8 : Int32) (μ119 : XS) : Option (Int32 × XS) :=
  if x119_8 = 0 then
    fX0_resonance_L130 K k34 (0 : Int32) x119_2 x119_5 x119_6 μ119
  else
    fX0_resonance_L130 K k34 (1 : Int32) x119_2 x119_5 x119_6 μ119
def fX0_resonance_L105 (K : Nat) (k34 : Int32 → Int64 → Int32 → XS → Option (Int32 × XS)) (t105_0 : Int32) (x105_2 : Int32) (x105_5 : Int32) (x105_6 : Int64) (μ105 : XS) : Option (Int32 × XS) :=
  if t105_0 = 0 then
    fX0_resonance_L119 K k34 x105_2 x105_5 x105_6 t105_0 μ105
  else
    if x105_2 = 0 then
      some (x105_5, μ105)
    else
      fX0_resonance_L119 K k34 x105_2 x105_5 x105_6 t105_0 μ105
def fX0_resonance_L100 (K : Nat) (k34 : Int32 → Int64 → Int32 → XS → Option (Int32 × XS)) (x100_2 : Int32) (x100_5 : Int32) (x100_6 : Int64) (μ100 : XS) : Option (Int32 × XS) :=
  fX0_resonance_L105 K k34 (1 : Int32) x100_2 x100_5 x100_6 μ100
def fX0_resonance_L104 (K : Nat) (k34 : Int32 → Int64 → Int32 → XS → Option (Int32 × XS)) (x104_2 : Int32) (x104_5 : Int32) (x104_6 : Int64) (μ104 : XS) : Option (Int32 × XS) :=
  fX0_resonance_L105 K k34 (0 : Int32) x104_2 x104_5 x104_6 μ104
def fX0_resonance_L87 (K : Nat) (k34 : Int32 → Int64 → Int32 → XS → Option (Int32 × XS)) (x87_2 : Int32) (x87_3 : Int64) (x87_5 : Int32) (x87_6 : Int64) (μ87 : XS) : Option (Int32 × XS) :=
  if x87_3 ≤ (0 : Int64) then
    fX0_resonance_L104 K k34 x87_2 x87_5 x87_6 μ87
  else
    if (0 : Int64) ≤ x87_6 then
      fX0_resonance_L104 K k34 x87_2 x87_5 x87_6 μ87
    else
      fX0_resonance_L100 K k34 x87_2 x87_5 x87_6 μ87
def fX0_resonance_L34 (K : Nat) : Nat → Int32 → Int64 → Int32 → XS → Option (Int32 × XS)
  | 0, _, _, _, _ => none
  | n + 1, x34_2, x34_3, x34_5, μ34 =>
    ga (ix ((μ34.1 49) - (1 : Int32)) 16) <|
    if (μ34.2.2.1 46 ((μ34.1 49) - (1 : Int32)).toNatClampNeg) < x34_5 then
      some ((-2 : Int32), μ34)
    else
      b1 (fX6_reactance K x34_5 μ34) fun r_13 =>
      if r_13 = (0 : Int64) then
        fX0_resonance_L100 K (fX0_resonance_L34 K n) x34_2 x34_5 r_13 μ34
      else
        if (0 : Int64) ≤ x34_3 then
          fX0_resonance_L87 K (fX0_resonance_L34 K n) x34_2 x34_3 x34_5 r_13 μ34
        else
          if (0 : Int64) < r_13 then
            fX0_resonance_L100 K (fX0_resonance_L34 K n) x34_2 x34_5 r_13 μ34
          else
            fX0_resonance_L87 K (fX0_resonance_L34 K n) x34_2 x34_3 x34_5 r_13 μ34
def fX0_resonance (K : Nat) (p0 : Int32) (μ : XS) : Option (Int32 × XS) :=
  b2 (fX0_isReady K μ) fun r_2 ξ_3 =>
  if r_2 = true then
    b1 (fX0_isIn K p0 (0 : Int32) (100 : Int32)) fun r_5 =>
    if r_5 = true then
      nm (ξ_3.2.2.1 46 (0 : Int32).toNatClampNeg) fun v_9 =>
      fX0_resonance_L34 K K p0 (0 : Int64) v_9 ξ_3
    else
      some ((-1 : Int32), ξ_3)
  else
    some ((-1 : Int32), ξ_3)
set_option maxHeartbeats 4000000 in
set_option maxRecDepth 100000 in
theorem tX0_resonance (l : Launch) (D : va_G) (d : Nat → ClassId) (z : ZT) (b : Nat → Nat) (fl : Option Nat) (K : Nat) (p0 : Int32) (μ : XS) (r : Int32) (μ' : XS) (hf : fX0_resonance K p0 μ = some (r, μ')) : CI l yX0_resonance (ws_ yX0_resonance cX0_resonance 9 (Option.some Jvm.ClassFile.FieldType.int)) (rmc 2 0 0 44) D d z [.ref (b 0), .int p0] (XP d z b fl μ) r (XP d z b fl μ') := by
  refine CI.of2 (own := RX0) rfl (by decide) (Nat.le_of_ble_eq_true rfl) rfl ?_
  intro p e s m args below meth c A Q ls S hin hK hP hD hZ hS hA hl hret0
  have hret : ∀ (x : Int32) (μx : XS) (H : Heap) (locs : List Loc) (pc : Nat) (ls' : Array Slot), some (x, μx) = some (r, μ') → decode cX0_resonance pc = .ok (.ireturn, 1) → va_P D CL (XP d z b fl μx) H → va_D A (XP d z b fl μx) → va_S A s.heap H locs → W p l e (rmc 2 0 0 44) s m args below meth c H locs 0 0 Q (F0 m pc ls' [.int x]) := by
    intro x μx H locs pc ls' h9 hdg hP hD hS
    obtain ⟨rfl, rfl⟩ := so_2 h9
    exact hret0 H locs pc ls' hdg hP hD hS
  have hx := S.1
  have hb := S.2.1
  have hts := S.2.2.2.2
  have hl : lv_has ls 9 [(0, .ref (b 0)), (1, .int p0)] := hl
  have L34 : ∀ (n : Nat) (x34_2 : Int32) (x34_3 : Int64) (x34_5 : Int32) (μ34 : XS) (H : Heap) (locs : List Loc) (ls : Array Slot), fX0_resonance_L34 K n x34_2 x34_3 x34_5 μ34 = some (r, μ') → va_P D CL (XP d z b fl μ34) H → va_D A (XP d z b fl μ34) → va_S A s.heap H locs → lv_has ls 9 [(0, .ref (b 0)), (2, .int x34_2), (3, .long x34_3), (5, .int x34_5)] → W p l e (rmc 2 0 0 44) s m args below meth c H locs 0 0 Q (F0 m 34 ls []) := by
    intro n
    induction n with
    | zero =>
      intro x34_2 x34_3 x34_5 μ34 H locs ls hf hP hD hS hl
      rw [fX0_resonance_L34] at hf
      cases hf
    | succ n ih =>
      have ih34 := ih
      have L130 : ∀ (t130_0 : Int32) (t130_1 : Int32) (x130_5 : Int32) (x130_6 : Int64) (μ130 : XS) (H : Heap) (locs : List Loc) (ls : Array Slot), fX0_resonance_L130 K (fX0_resonance_L34 K n) t130_0 t130_1 x130_5 x130_6 μ130 = some (r, μ') → va_P D CL (XP d z b fl μ130) H → va_D A (XP d z b fl μ130) → va_S A s.heap H locs → lv_has ls 9 [(0, .ref (b 0)), (5, .int x130_5), (6, .long x130_6)] → W p l e (rmc 2 0 0 44) s m args below meth c H locs 0 0 Q (F0 m 130 ls [.int t130_0, .int t130_1]) := by
        intro t130_0 t130_1 x130_5 x130_6 μ130 H locs ls hf hP hD hS hl
        unfold fX0_resonance_L130 at hf
        refine lv_isub hx hb dX0_resonance_130 ?_
        refine lv_topi (fun v_17 e_ => ?_)
        replace hf := nm_some hf v_17 e_
        clear e_
        refine lv_istore_n (lv' := [(2, .int v_17), (0, .ref (b 0)), (5, .int x130_5), (6, .long x130_6)]) hx hb dX0_resonance_131 rfl hl (by decide) rfl (fun ls hl => ?_)
        refine lv_lload hx hb dX0_resonance_132 (lv_at hl 3 rfl) ?_
        refine lv_lstore_n (lv' := [(3, .long x130_6), (2, .int v_17), (0, .ref (b 0)), (5, .int x130_5), (6, .long x130_6)]) hx hb dX0_resonance_134 rfl hl (by decide) rfl (fun ls hl => ?_)
        refine lv_iinc (v := x130_5 + (1 : Int32)) (lv' := [(5, .int (x130_5 + (1 : Int32))), (3, .long x130_6), (2, .int v_17), (0, .ref (b 0)), (6, .long x130_6)]) hx hb dX0_resonance_135 hl (k := 3) rfl rfl (by decide) rfl (fun ls hl => ?_)
        refine lv_goto (tgt := 34) hx hb dX0_resonance_138 (by decide) ?_
        exact ih34 v_17 x130_6 (x130_5 + (1 : Int32)) μ130 _ _ _ hf hP hD hS (lv_sub hl [3, 2, 1, 0] rfl)
      have L119 : ∀ (x119_2 : Int32) (x119_5 : Int32) (x119_6 : Int64) (x119_8 : Int32) (μ119 : XS) (H : Heap) (locs : List Loc) (ls : Array Slot), fX0_resonance_L119 K (fX0_resonance_L34 K n) x119_2 x119_5 x119_6 x119_8 μ119 = some (r, μ') → va_P D CL (XP d z b fl μ119) H → va_D A (XP d z b fl μ119) → va_S A s.heap H locs → lv_has ls 9 [(0, .ref (b 0)), (2, .int x119_2), (5, .int x119_5), (6, .long x119_6), (8, .int x119_8)] → W p l e (rmc 2 0 0 44) s m args below meth c H locs 0 0 Q (F0 m 119 ls []) := by
        intro x119_2 x119_5 x119_6 x119_8 μ119 H locs ls hf hP hD hS hl
        unfold fX0_resonance_L119 at hf
        refine lv_iload_n hx hb dX0_resonance_119 rfl (lv_at hl 1 rfl) ?_
        refine lv_iload hx hb dX0_resonance_120 (lv_at hl 4 rfl) ?_
        refine lv_if_eq (tgt := 129) hx hb dX0_resonance_122 (by decide) (fun c_16 => ?_) (fun c_16 => ?_)
        · replace hf := it_t hf c_16
          clear c_16
          refine lv_iconst (v := 0) hx hb dX0_resonance_129 (by decide) ?_
          exact L130 (0 : Int32) x119_2 x119_5 x119_6 μ119 _ _ _ hf hP hD hS (lv_sub hl [0, 2, 3] rfl)
        · replace hf := it_f hf c_16
          clear c_16
          refine lv_iconst (v := 1) hx hb dX0_resonance_125 (by decide) ?_
          refine lv_goto (tgt := 130) hx hb dX0_resonance_126 (by decide) ?_
          exact L130 (1 : Int32) x119_2 x119_5 x119_6 μ119 _ _ _ hf hP hD hS (lv_sub hl [0, 2, 3] rfl)
      have L105 : ∀ (t105_0 : Int32) (x105_2 : Int32) (x105_5 : Int32) (x105_6 : Int64) (μ105 : XS) (H : Heap) (locs : List Loc) (ls : Array Slot), fX0_resonance_L105 K (fX0_resonance_L34 K n) t105_0 x105_2 x105_5 x105_6 μ105 = some (r, μ') → va_P D CL (XP d z b fl μ105) H → va_D A (XP d z b fl μ105) → va_S A s.heap H locs → lv_has ls 9 [(0, .ref (b 0)), (2, .int x105_2), (5, .int x105_5), (6, .long x105_6)] → W p l e (rmc 2 0 0 44) s m args below meth c H locs 0 0 Q (F0 m 105 ls [.int t105_0]) := by
        intro t105_0 x105_2 x105_5 x105_6 μ105 H locs ls hf hP hD hS hl
        unfold fX0_resonance_L105 at hf
        refine lv_istore (lv' := [(8, .int t105_0), (0, .ref (b 0)), (2, .int x105_2), (5, .int x105_5), (6, .long x105_6)]) hx hb dX0_resonance_105 hl (by decide) rfl (fun ls hl => ?_)
        refine lv_iload hx hb dX0_resonance_107 (lv_at hl 0 rfl) ?_
        refine lv_if_eq (tgt := 119) hx hb dX0_resonance_109 (by decide) (fun c_15 => ?_) (fun c_15 => ?_)
        · replace hf := it_t hf c_15
          clear c_15
          exact L119 x105_2 x105_5 x105_6 t105_0 μ105 _ _ _ hf hP hD hS (lv_sub hl [1, 2, 3, 4, 0] rfl)
        · replace hf := it_f hf c_15
          clear c_15
          refine lv_iload_n hx hb dX0_resonance_112 rfl (lv_at hl 2 rfl) ?_
          refine lv_if_ne (tgt := 119) hx hb dX0_resonance_113 (by decide) (fun c_18 => ?_) (fun c_18 => ?_)
          · replace hf := it_f hf c_18
            clear c_18
            exact L119 x105_2 x105_5 x105_6 t105_0 μ105 _ _ _ hf hP hD hS (lv_sub hl [1, 2, 3, 4, 0] rfl)
          · replace hf := it_t hf c_18
            clear c_18
            refine lv_iload hx hb dX0_resonance_116 (lv_at hl 3 rfl) ?_
            refine W.widen (k := 0) (n := 0) (Nat.le_of_ble_eq_true rfl) (Nat.le_of_ble_eq_true rfl) ?_
            exact hret _ _ _ _ _ _ hf dX0_resonance_118 hP hD hS
      have L100 : ∀ (x100_2 : Int32) (x100_5 : Int32) (x100_6 : Int64) (μ100 : XS) (H : Heap) (locs : List Loc) (ls : Array Slot), fX0_resonance_L100 K (fX0_resonance_L34 K n) x100_2 x100_5 x100_6 μ100 = some (r, μ') → va_P D CL (XP d z b fl μ100) H → va_D A (XP d z b fl μ100) → va_S A s.heap H locs → lv_has ls 9 [(0, .ref (b 0)), (2, .int x100_2), (5, .int x100_5), (6, .long x100_6)] → W p l e (rmc 2 0 0 44) s m args below meth c H locs 0 0 Q (F0 m 100 ls []) := by
        intro x100_2 x100_5 x100_6 μ100 H locs ls hf hP hD hS hl
        unfold fX0_resonance_L100 at hf
        refine lv_iconst (v := 1) hx hb dX0_resonance_100 (by decide) ?_
        refine lv_goto (tgt := 105) hx hb dX0_resonance_101 (by decide) ?_
        exact L105 (1 : Int32) x100_2 x100_5 x100_6 μ100 _ _ _ hf hP hD hS (lv_sub hl [0, 1, 2, 3] rfl)
      have L104 : ∀ (x104_2 : Int32) (x104_5 : Int32) (x104_6 : Int64) (μ104 : XS) (H : Heap) (locs : List Loc) (ls : Array Slot), fX0_resonance_L104 K (fX0_resonance_L34 K n) x104_2 x104_5 x104_6 μ104 = some (r, μ') → va_P D CL (XP d z b fl μ104) H → va_D A (XP d z b fl μ104) → va_S A s.heap H locs → lv_has ls 9 [(0, .ref (b 0)), (2, .int x104_2), (5, .int x104_5), (6, .long x104_6)] → W p l e (rmc 2 0 0 44) s m args below meth c H locs 0 0 Q (F0 m 104 ls []) := by
        intro x104_2 x104_5 x104_6 μ104 H locs ls hf hP hD hS hl
        unfold fX0_resonance_L104 at hf
        refine lv_iconst (v := 0) hx hb dX0_resonance_104 (by decide) ?_
        exact L105 (0 : Int32) x104_2 x104_5 x104_6 μ104 _ _ _ hf hP hD hS (lv_sub hl [0, 1, 2, 3] rfl)
      have L87 : ∀ (x87_2 : Int32) (x87_3 : Int64) (x87_5 : Int32) (x87_6 : Int64) (μ87 : XS) (H : Heap) (locs : List Loc) (ls : Array Slot), fX0_resonance_L87 K (fX0_resonance_L34 K n) x87_2 x87_3 x87_5 x87_6 μ87 = some (r, μ') → va_P D CL (XP d z b fl μ87) H → va_D A (XP d z b fl μ87) → va_S A s.heap H locs → lv_has ls 9 [(0, .ref (b 0)), (2, .int x87_2), (3, .long x87_3), (5, .int x87_5), (6, .long x87_6)] → W p l e (rmc 2 0 0 44) s m args below meth c H locs 0 0 Q (F0 m 87 ls []) := by
        intro x87_2 x87_3 x87_5 x87_6 μ87 H locs ls hf hP hD hS hl
        unfold fX0_resonance_L87 at hf
        refine lv_lload_n hx hb dX0_resonance_87 rfl (lv_at hl 2 rfl) ?_
        refine lv_lconst (v := 0) hx hb dX0_resonance_88 (by decide) ?_
        refine g_lcmp_le (tgt := 104) hx hb dX0_resonance_89 dX0_resonance_90 (by decide) (fun c_20 => ?_) (fun c_20 => ?_)
        · replace hf := it_t hf c_20
          clear c_20
          exact L104 x87_2 x87_5 x87_6 μ87 _ _ _ hf hP hD hS (lv_sub hl [0, 1, 3, 4] rfl)
        · replace hf := it_f hf c_20
          clear c_20
          refine lv_lload hx hb dX0_resonance_93 (lv_at hl 4 rfl) ?_
          refine lv_lconst (v := 0) hx hb dX0_resonance_95 (by decide) ?_
          refine g_lcmp_ge (tgt := 104) hx hb dX0_resonance_96 dX0_resonance_97 (by decide) (fun c_21 => ?_) (fun c_21 => ?_)
          · replace hf := it_t hf c_21
            clear c_21
            exact L104 x87_2 x87_5 x87_6 μ87 _ _ _ hf hP hD hS (lv_sub hl [0, 1, 3, 4] rfl)
          · replace hf := it_f hf c_21
            clear c_21
            exact L100 x87_2 x87_5 x87_6 μ87 _ _ _ hf hP hD hS (lv_sub hl [0, 1, 3, 4] rfl)
      intro x34_2 x34_3 x34_5 μ34 H locs ls hf hP hD hS hl
      rw [fX0_resonance_L34] at hf
      refine lv_iload hx hb dX0_resonance_34 (lv_at hl 3 rfl) ?_
      refine lv_aload_n hx hb dX0_resonance_36 rfl (lv_at hl 0 rfl) ?_
      refine g_get hx hb hts S.2.2.2.1 hK hP in_X0 0 rfl rfl 7 (by decide) q291 (fun _ h9 => h9) (v := .ref (b 7)) rfl dX0_resonance_37 ?_
      refine g_getN hx hb hts S.2.2.2.1 hK hP in_X6 7 rfl rfl 6 (by decide) q366 (fun _ h9 => h9) (v := .ref (b 8)) rfl dX0_resonance_40 ?_
      refine lv_aload_n hx hb dX0_resonance_43 rfl (lv_at hl 0 rfl) ?_
      refine g_get hx hb hts S.2.2.2.1 hK hP in_X0 0 rfl rfl 7 (by decide) q291 (fun _ h9 => h9) (v := .ref (b 7)) rfl dX0_resonance_44 ?_
      refine g_getN hx hb hts S.2.2.2.1 hK hP in_X6 7 rfl rfl 9 (by decide) q373 (fun _ h9 => h9) (v := .int (μ34.1 49)) rfl dX0_resonance_47 ?_
      refine lv_iconst (v := 1) hx hb dX0_resonance_50 (by decide) ?_
      refine lv_isub hx hb dX0_resonance_51 ?_
      obtain ⟨g_10, hf⟩ := ga_some hf
      refine g_iald hx hb hK hP 8 rfl (ix_in g_10) dX0_resonance_52 ?_
      refine lv_icmp_gt (tgt := 141) hx hb dX0_resonance_53 (by decide) (fun c_11 => ?_) (fun c_11 => ?_)
      · replace hf := it_t hf c_11
        clear c_11
        refine lv_bipush (v := -2) hx hb dX0_resonance_141 (by decide) ?_
        refine W.widen (k := 0) (n := 0) (Nat.le_of_ble_eq_true rfl) (Nat.le_of_ble_eq_true rfl) ?_
        exact hret _ _ _ _ _ _ hf dX0_resonance_143 hP hD hS
      · replace hf := it_f hf c_11
        clear c_11
        refine lv_aload_n hx hb dX0_resonance_56 rfl (lv_at hl 0 rfl) ?_
        refine g_get hx hb hts S.2.2.2.1 hK hP in_X0 0 rfl rfl 7 (by decide) q291 (fun _ h9 => h9) (v := .ref (b 7)) rfl dX0_resonance_57 ?_
        refine lv_iload hx hb dX0_resonance_60 (lv_at hl 3 rfl) ?_
        obtain ⟨r_13, h_12, hf⟩ := b1_some hf
        refine run_j0 (wr := [(b 0, .inr (1, [.ref (b 1), .int (μ34.1 1), .int (μ34.1 2), .ref (b 2), .ref (b 3), .ref (b 4), va_rf fl, .ref (b 7), .ref (b 13), .ref (b 16), .int (μ34.1 10)])), (b 1, .inl (d 2, 500, .inl (μ34.2.2.1 1))), (b 2, .inl (d 5, 2, .inr (.inr (.inr (.inr (fun j => some (z.2.2 j))))))), (b 3, .inl (d 6, 5, .inr (.inr (.inr (.inr (fun j => some (z.2.2 (2 + j)))))))), (b 4, .inr (4, [.int (μ34.1 20), .long (μ34.2.1 21), .long (μ34.2.1 22), .long (μ34.2.1 23), .ref (b 5), .ref (b 6), .ref (b 0)])), (b 5, .inr (2, [.long (μ34.2.1 30), .long (μ34.2.1 31)])), (b 6, .inr (2, [.long (μ34.2.1 32), .long (μ34.2.1 33)])), (b 13, .inr (8, [.int (μ34.1 60), .int (μ34.1 61), .int (μ34.1 62), .int (μ34.1 63), .ref (b 14), .ref (b 15), .int (μ34.1 66), .ref (b 17)])), (b 14, .inl (d 0, 100, .inl (μ34.2.2.1 64))), (b 15, .inl (d 3, 100, .inl (μ34.2.2.1 65)))]) (w' := XP d z b fl μ34) (va_runV (As := [.int x34_5]) (rest := []) S (tX6_reactance l D d z b K x34_5 μ34 r_13 h_12 _) (cwV 1 hts (lw_V q877 q878 q879 q103 q880) rfl rfl rfl (by decide +kernel) ⟨(Nat.le_of_ble_eq_true rfl), (Nat.le_of_ble_eq_true rfl)⟩) ⟨Pw.blind, (va_recv hK.1 hP (ci := 6) (q0 := 7) rfl rfl), fun U hU hW => Pw.cut (tl := []) hK (by rw [List.append_nil]; exact hP) (by rw [List.append_nil]; exact hD) hZ hS hA [7, 8, 9, 10, 11, 12] rfl rfl hU hW⟩ rfl rfl hl.1 rfl (lv_room (Nat.le_of_ble_eq_true rfl)) dX0_resonance_62 ⟨(Nat.le_of_ble_eq_true rfl), (Nat.le_of_ble_eq_true rfl)⟩) hP hD hS hA [7, 8, 9, 10, 11, 12] [0, 1, 2, 3, 4, 5, 6, 13, 14, 15] [0, 1, 2, 3, 4, 5, 6, 10, 11, 12, 13, 14, 15, 7, 8, 9] rfl rfl rfl rfl (by decide) rfl rfl ?_
        clear hP hD hS
        intro H locs hP hD hS
        clear h_12
        refine lv_lstore (lv' := [(6, .long r_13), (0, .ref (b 0)), (2, .int x34_2), (3, .long x34_3), (5, .int x34_5)]) hx hb dX0_resonance_65 hl (by decide) rfl (fun ls hl => ?_)
        refine lv_lload hx hb dX0_resonance_67 (lv_at hl 0 rfl) ?_
        refine lv_lconst (v := 0) hx hb dX0_resonance_69 (by decide) ?_
        refine g_lcmp_eq (tgt := 100) hx hb dX0_resonance_70 dX0_resonance_71 (by decide) (fun c_14 => ?_) (fun c_14 => ?_)
        · replace hf := it_t hf c_14
          clear c_14
          exact L100 x34_2 x34_5 r_13 μ34 _ _ _ hf hP hD hS (lv_sub hl [1, 2, 4, 0] rfl)
        · replace hf := it_f hf c_14
          clear c_14
          refine lv_lload_n hx hb dX0_resonance_74 rfl (lv_at hl 3 rfl) ?_
          refine lv_lconst (v := 0) hx hb dX0_resonance_75 (by decide) ?_
          refine g_lcmp_ge (tgt := 87) hx hb dX0_resonance_76 dX0_resonance_77 (by decide) (fun c_19 => ?_) (fun c_19 => ?_)
          · replace hf := it_t hf c_19
            clear c_19
            exact L87 x34_2 x34_3 x34_5 r_13 μ34 _ _ _ hf hP hD hS (lv_sub hl [1, 2, 3, 4, 0] rfl)
          · replace hf := it_f hf c_19
            clear c_19
            refine lv_lload hx hb dX0_resonance_80 (lv_at hl 0 rfl) ?_
            refine lv_lconst (v := 0) hx hb dX0_resonance_82 (by decide) ?_
            refine g_lcmp_gt (tgt := 100) hx hb dX0_resonance_83 dX0_resonance_84 (by decide) (fun c_22 => ?_) (fun c_22 => ?_)
            · replace hf := it_t hf c_22
              clear c_22
              exact L100 x34_2 x34_5 r_13 μ34 _ _ _ hf hP hD hS (lv_sub hl [1, 2, 4, 0] rfl)
            · replace hf := it_f hf c_22
              clear c_22
              exact L87 x34_2 x34_3 x34_5 r_13 μ34 _ _ _ hf hP hD hS (lv_sub hl [1, 2, 3, 4, 0] rfl)
  unfold fX0_resonance at hf
  refine lv_aload_n hx hb dX0_resonance_0 rfl (lv_at hl 0 rfl) ?_
  obtain ⟨r_2, ξ_3, h_1, hf⟩ := b2_some hf
  refine runW_i (va_runV (As := []) (rest := []) S (tX0_isReady l D d z b fl K μ r_2 ξ_3 h_1 _) (cwV 0 hts (lw_V q857 q859 qs18 q94 q860) rfl rfl rfl (by decide +kernel) ⟨(Nat.le_of_ble_eq_true rfl), (Nat.le_of_ble_eq_true rfl)⟩) ⟨Pw.blind, (va_recv hK.1 hP (ci := 1) (q0 := 0) rfl rfl), fun U hU hW => Pw.at hK hP hD hZ hS hA hU hW⟩ rfl rfl hl.1 rfl (lv_room (Nat.le_of_ble_eq_true rfl)) dX0_resonance_1 ⟨(Nat.le_of_ble_eq_true rfl), (Nat.le_of_ble_eq_true rfl)⟩) hP hD hS hA ?_
  clear hP hD hS
  intro H locs hP hD hS
  clear h_1
  refine lv_if_eq (tgt := 17) hx hb dX0_resonance_4 (by decide) (fun c_4 => ?_) (fun c_4 => ?_)
  · replace hf := it_f hf (bi_e0 c_4)
    clear c_4
    refine lv_iconst (v := -1) hx hb dX0_resonance_17 (by decide) ?_
    refine W.widen (k := 0) (n := 0) (Nat.le_of_ble_eq_true rfl) (Nat.le_of_ble_eq_true rfl) ?_
    exact hret _ _ _ _ _ _ hf dX0_resonance_18 hP hD hS
  · replace hf := it_t hf (bi_n0 c_4)
    clear c_4
    refine lv_iload_n hx hb dX0_resonance_7 rfl (lv_at hl 1 rfl) ?_
    refine lv_iconst (v := 0) hx hb dX0_resonance_8 (by decide) ?_
    refine lv_bipush (v := 100) hx hb dX0_resonance_9 (by decide) ?_
    obtain ⟨r_5, h_6, hf⟩ := b1_some hf
    refine si_call S (tX0_isIn l K p0 (0 : Int32) (100 : Int32) _ h_6) (va_cwS 3 hts (lw_S q331 q332 q94 q333) rfl rfl rfl (by decide +kernel) ⟨(Nat.le_of_ble_eq_true rfl), (Nat.le_of_ble_eq_true rfl)⟩) rfl hl.1 rfl (Nat.le_of_ble_eq_true rfl) ⟨(Nat.le_of_ble_eq_true rfl), (Nat.le_of_ble_eq_true rfl)⟩ dX0_resonance_11 ?_
    clear h_6
    refine lv_if_ne (tgt := 19) hx hb dX0_resonance_14 (by decide) (fun c_7 => ?_) (fun c_7 => ?_)
    · replace hf := it_t hf (bi_n0 c_7)
      clear c_7
      refine lv_iload_n hx hb dX0_resonance_19 rfl (lv_at hl 1 rfl) ?_
      refine lv_istore_n (lv' := [(2, .int p0), (0, .ref (b 0)), (1, .int p0)]) hx hb dX0_resonance_20 rfl hl (by decide) rfl (fun ls hl => ?_)
      refine lv_lconst (v := 0) hx hb dX0_resonance_21 (by decide) ?_
      refine lv_lstore_n (lv' := [(3, .long (0 : Int64)), (2, .int p0), (0, .ref (b 0)), (1, .int p0)]) hx hb dX0_resonance_22 rfl hl (by decide) rfl (fun ls hl => ?_)
      refine lv_aload_n hx hb dX0_resonance_23 rfl (lv_at hl 2 rfl) ?_
      refine g_get hx hb hts S.2.2.2.1 hK hP in_X0 0 rfl rfl 7 (by decide) q291 (fun _ h9 => h9) (v := .ref (b 7)) rfl dX0_resonance_24 ?_
      refine g_getN hx hb hts S.2.2.2.1 hK hP in_X6 7 rfl rfl 6 (by decide) q366 (fun _ h9 => h9) (v := .ref (b 8)) rfl dX0_resonance_27 ?_
      refine lv_iconst (v := 0) hx hb dX0_resonance_30 (by decide) ?_
      refine g_iald hx hb hK hP 8 rfl (ix_in (by decide)) dX0_resonance_31 ?_
      refine lv_topi (fun v_9 e_ => ?_)
      replace hf := nm_some hf v_9 e_
      clear e_
      refine lv_istore (lv' := [(5, .int v_9), (3, .long (0 : Int64)), (2, .int p0), (0, .ref (b 0)), (1, .int p0)]) hx hb dX0_resonance_32 hl (by decide) rfl (fun ls hl => ?_)
      exact L34 K p0 (0 : Int64) v_9 ξ_3 _ _ _ hf hP hD hS (lv_sub hl [3, 2, 1, 0] rfl)
    · replace hf := it_f hf (bi_e0 c_7)
      clear c_7
      refine lv_iconst (v := -1) hx hb dX0_resonance_17 (by decide) ?_
      refine W.widen (k := 0) (n := 0) (Nat.le_of_ble_eq_true rfl) (Nat.le_of_ble_eq_true rfl) ?_
      exact hret _ _ _ _ _ _ hf dX0_resonance_18 hP hD hS
def fX0_bandOf (K : Nat) (p0 : Int32) (μ : XS) : Option (Int32 × XS) :=
  b2 (fX0_isReady K μ) fun r_2 ξ_3 =>
  if r_2 = true then
    b1 (fX0_isFrequency K p0) fun r_5 =>
    if r_5 = true then
      b1 (fX6_bandOf K p0 ξ_3) fun r_9 =>
      some (r_9, ξ_3)
    else
      some ((-1 : Int32), ξ_3)
  else
    some ((-1 : Int32), ξ_3)
set_option maxHeartbeats 4000000 in
set_option maxRecDepth 100000 in
theorem tX0_bandOf (l : Launch) (D : va_G) (d : Nat → ClassId) (z : ZT) (b : Nat → Nat) (fl : Option Nat) (K : Nat) (p0 : Int32) (μ : XS) (r : Int32) (μ' : XS) (hf : fX0_bandOf K p0 μ = some (r, μ')) : CI l yX0_bandOf (ws_ yX0_bandOf cX0_bandOf 2 (Option.some Jvm.ClassFile.FieldType.int)) (rmc 2 0 0 44) D d z [.ref (b 0), .int p0] (XP d z b fl μ) r (XP d z b fl μ') := by
  refine CI.of2 (own := RX0) rfl (by decide) (Nat.le_of_ble_eq_true rfl) rfl ?_
  intro p e s m args below meth c A Q ls S hin hK hP hD hZ hS hA hl hret0
  have hret : ∀ (x : Int32) (μx : XS) (H : Heap) (locs : List Loc) (pc : Nat) (ls' : Array Slot), some (x, μx) = some (r, μ') → decode cX0_bandOf pc = .ok (.ireturn, 1) → va_P D CL (XP d z b fl μx) H → va_D A (XP d z b fl μx) → va_S A s.heap H locs → W p l e (rmc 2 0 0 44) s m args below meth c H locs 0 0 Q (F0 m pc ls' [.int x]) := by
    intro x μx H locs pc ls' h9 hdg hP hD hS
    obtain ⟨rfl, rfl⟩ := so_2 h9
    exact hret0 H locs pc ls' hdg hP hD hS
  have hx := S.1
  have hb := S.2.1
  have hts := S.2.2.2.2
  have hl : lv_has ls 2 [(0, .ref (b 0)), (1, .int p0)] := hl
  unfold fX0_bandOf at hf
  refine lv_aload_n hx hb dX0_bandOf_0 rfl (lv_at hl 0 rfl) ?_
  obtain ⟨r_2, ξ_3, h_1, hf⟩ := b2_some hf
  refine runW_i (va_runV (As := []) (rest := []) S (tX0_isReady l D d z b fl K μ r_2 ξ_3 h_1 _) (cwV 0 hts (lw_V q857 q859 qs18 q94 q860) rfl rfl rfl (by decide +kernel) ⟨(Nat.le_of_ble_eq_true rfl), (Nat.le_of_ble_eq_true rfl)⟩) ⟨Pw.blind, (va_recv hK.1 hP (ci := 1) (q0 := 0) rfl rfl), fun U hU hW => Pw.at hK hP hD hZ hS hA hU hW⟩ rfl rfl hl.1 rfl (lv_room (Nat.le_of_ble_eq_true rfl)) dX0_bandOf_1 ⟨(Nat.le_of_ble_eq_true rfl), (Nat.le_of_ble_eq_true rfl)⟩) hP hD hS hA ?_
  clear hP hD hS
  intro H locs hP hD hS
  clear h_1
  refine lv_if_eq (tgt := 25) hx hb dX0_bandOf_4 (by decide) (fun c_4 => ?_) (fun c_4 => ?_)
  · replace hf := it_f hf (bi_e0 c_4)
    clear c_4
    refine lv_iconst (v := -1) hx hb dX0_bandOf_25 (by decide) ?_
    refine W.widen (k := 0) (n := 0) (Nat.le_of_ble_eq_true rfl) (Nat.le_of_ble_eq_true rfl) ?_
    exact hret _ _ _ _ _ _ hf dX0_bandOf_26 hP hD hS
  · replace hf := it_t hf (bi_n0 c_4)
    clear c_4
    refine lv_iload_n hx hb dX0_bandOf_7 rfl (lv_at hl 1 rfl) ?_
    obtain ⟨r_5, h_6, hf⟩ := b1_some hf
    refine si_call S (tX0_isFrequency l K p0 _ h_6) (va_cwS 1 hts (lw_S q861 q862 q94 q863) rfl rfl rfl (by decide +kernel) ⟨(Nat.le_of_ble_eq_true rfl), (Nat.le_of_ble_eq_true rfl)⟩) rfl hl.1 rfl (Nat.le_of_ble_eq_true rfl) ⟨(Nat.le_of_ble_eq_true rfl), (Nat.le_of_ble_eq_true rfl)⟩ dX0_bandOf_8 ?_
    clear h_6
    refine lv_if_eq (tgt := 25) hx hb dX0_bandOf_11 (by decide) (fun c_7 => ?_) (fun c_7 => ?_)
    · replace hf := it_f hf (bi_e0 c_7)
      clear c_7
      refine lv_iconst (v := -1) hx hb dX0_bandOf_25 (by decide) ?_
      refine W.widen (k := 0) (n := 0) (Nat.le_of_ble_eq_true rfl) (Nat.le_of_ble_eq_true rfl) ?_
      exact hret _ _ _ _ _ _ hf dX0_bandOf_26 hP hD hS
    · replace hf := it_t hf (bi_n0 c_7)
      clear c_7
      refine lv_aload_n hx hb dX0_bandOf_14 rfl (lv_at hl 0 rfl) ?_
      refine g_get hx hb hts S.2.2.2.1 hK hP in_X0 0 rfl rfl 7 (by decide) q291 (fun _ h9 => h9) (v := .ref (b 7)) rfl dX0_bandOf_15 ?_
      refine lv_iload_n hx hb dX0_bandOf_18 rfl (lv_at hl 1 rfl) ?_
      obtain ⟨r_9, h_8, hf⟩ := b1_some hf
      refine run_i0 (wr := [(b 0, .inr (1, [.ref (b 1), .int (ξ_3.1 1), .int (ξ_3.1 2), .ref (b 2), .ref (b 3), .ref (b 4), va_rf fl, .ref (b 7), .ref (b 13), .ref (b 16), .int (ξ_3.1 10)])), (b 1, .inl (d 2, 500, .inl (ξ_3.2.2.1 1))), (b 2, .inl (d 5, 2, .inr (.inr (.inr (.inr (fun j => some (z.2.2 j))))))), (b 3, .inl (d 6, 5, .inr (.inr (.inr (.inr (fun j => some (z.2.2 (2 + j)))))))), (b 4, .inr (4, [.int (ξ_3.1 20), .long (ξ_3.2.1 21), .long (ξ_3.2.1 22), .long (ξ_3.2.1 23), .ref (b 5), .ref (b 6), .ref (b 0)])), (b 5, .inr (2, [.long (ξ_3.2.1 30), .long (ξ_3.2.1 31)])), (b 6, .inr (2, [.long (ξ_3.2.1 32), .long (ξ_3.2.1 33)])), (b 13, .inr (8, [.int (ξ_3.1 60), .int (ξ_3.1 61), .int (ξ_3.1 62), .int (ξ_3.1 63), .ref (b 14), .ref (b 15), .int (ξ_3.1 66), .ref (b 17)])), (b 14, .inl (d 0, 100, .inl (ξ_3.2.2.1 64))), (b 15, .inl (d 3, 100, .inl (ξ_3.2.2.1 65)))]) (w' := XP d z b fl ξ_3) (va_runV (As := [.int p0]) (rest := []) S (tX6_bandOf l D d z b K p0 ξ_3 r_9 h_8 _) (cwV 1 hts (lw_V q890 q891 q892 q103 q893) rfl rfl rfl (by decide +kernel) ⟨(Nat.le_of_ble_eq_true rfl), (Nat.le_of_ble_eq_true rfl)⟩) ⟨Pw.blind, (va_recv hK.1 hP (ci := 6) (q0 := 7) rfl rfl), fun U hU hW => Pw.cut (tl := []) hK (by rw [List.append_nil]; exact hP) (by rw [List.append_nil]; exact hD) hZ hS hA [7, 8, 9, 10, 11, 12] rfl rfl hU hW⟩ rfl rfl hl.1 rfl (lv_room (Nat.le_of_ble_eq_true rfl)) dX0_bandOf_19 ⟨(Nat.le_of_ble_eq_true rfl), (Nat.le_of_ble_eq_true rfl)⟩) hP hD hS hA [7, 8, 9, 10, 11, 12] [0, 1, 2, 3, 4, 5, 6, 13, 14, 15] [0, 1, 2, 3, 4, 5, 6, 10, 11, 12, 13, 14, 15, 7, 8, 9] rfl rfl rfl rfl (by decide) rfl rfl ?_
      clear hP hD hS
      intro H locs hP hD hS
      clear h_8
      refine lv_goto (tgt := 26) hx hb dX0_bandOf_22 (by decide) ?_
      refine W.widen (k := 0) (n := 0) (Nat.le_of_ble_eq_true rfl) (Nat.le_of_ble_eq_true rfl) ?_
      exact hret _ _ _ _ _ _ hf dX0_bandOf_26 hP hD hS
def fX0_frequency (K : Nat) (μ : XS) : Option (Int32 × XS) :=
  b2 (fX0_isReady K μ) fun r_2 ξ_3 =>
  if r_2 = true then
    some (ξ_3.1 60, ξ_3)
  else
    some ((-1 : Int32), ξ_3)
set_option maxHeartbeats 4000000 in
set_option maxRecDepth 100000 in
theorem tX0_frequency (l : Launch) (D : va_G) (d : Nat → ClassId) (z : ZT) (b : Nat → Nat) (fl : Option Nat) (K : Nat) (μ : XS) (r : Int32) (μ' : XS) (hf : fX0_frequency K μ = some (r, μ')) : CI l yX0_frequency (ws_ yX0_frequency cX0_frequency 1 (Option.some Jvm.ClassFile.FieldType.int)) (rmc 1 0 0 20) D d z [.ref (b 0)] (XP d z b fl μ) r (XP d z b fl μ') := by
  refine CI.of2 (own := RX0) rfl (by decide) (Nat.le_of_ble_eq_true rfl) rfl ?_
  intro p e s m args below meth c A Q ls S hin hK hP hD hZ hS hA hl hret0
  have hret : ∀ (x : Int32) (μx : XS) (H : Heap) (locs : List Loc) (pc : Nat) (ls' : Array Slot), some (x, μx) = some (r, μ') → decode cX0_frequency pc = .ok (.ireturn, 1) → va_P D CL (XP d z b fl μx) H → va_D A (XP d z b fl μx) → va_S A s.heap H locs → W p l e (rmc 1 0 0 20) s m args below meth c H locs 0 0 Q (F0 m pc ls' [.int x]) := by
    intro x μx H locs pc ls' h9 hdg hP hD hS
    obtain ⟨rfl, rfl⟩ := so_2 h9
    exact hret0 H locs pc ls' hdg hP hD hS
  have hx := S.1
  have hb := S.2.1
  have hts := S.2.2.2.2
  have hl : lv_has ls 1 [(0, .ref (b 0))] := hl
  unfold fX0_frequency at hf
  refine lv_aload_n hx hb dX0_frequency_0 rfl (lv_at hl 0 rfl) ?_
  obtain ⟨r_2, ξ_3, h_1, hf⟩ := b2_some hf
  refine runW_i (va_runV (As := []) (rest := []) S (tX0_isReady l D d z b fl K μ r_2 ξ_3 h_1 _) (cwV 0 hts (lw_V q857 q859 qs18 q94 q860) rfl rfl rfl (by decide +kernel) ⟨(Nat.le_of_ble_eq_true rfl), (Nat.le_of_ble_eq_true rfl)⟩) ⟨Pw.blind, (va_recv hK.1 hP (ci := 1) (q0 := 0) rfl rfl), fun U hU hW => Pw.at hK hP hD hZ hS hA hU hW⟩ rfl rfl hl.1 rfl (lv_room (Nat.le_of_ble_eq_true rfl)) dX0_frequency_1 ⟨(Nat.le_of_ble_eq_true rfl), (Nat.le_of_ble_eq_true rfl)⟩) hP hD hS hA ?_
  clear hP hD hS
  intro H locs hP hD hS
  clear h_1
  refine lv_if_eq (tgt := 17) hx hb dX0_frequency_4 (by decide) (fun c_4 => ?_) (fun c_4 => ?_)
  · replace hf := it_f hf (bi_e0 c_4)
    clear c_4
    refine lv_iconst (v := -1) hx hb dX0_frequency_17 (by decide) ?_
    refine W.widen (k := 0) (n := 0) (Nat.le_of_ble_eq_true rfl) (Nat.le_of_ble_eq_true rfl) ?_
    exact hret _ _ _ _ _ _ hf dX0_frequency_18 hP hD hS
  · replace hf := it_t hf (bi_n0 c_4)
    clear c_4
    refine lv_aload_n hx hb dX0_frequency_7 rfl (lv_at hl 0 rfl) ?_
    refine g_get hx hb hts S.2.2.2.1 hK hP in_X0 0 rfl rfl 8 (by decide) q293 (fun _ h9 => h9) (v := .ref (b 13)) rfl dX0_frequency_8 ?_
    refine g_getN hx hb hts S.2.2.2.1 hK hP in_X8 13 rfl rfl 0 (by decide) q810 (fun _ h9 => h9) (v := .int (ξ_3.1 60)) rfl dX0_frequency_11 ?_
    refine lv_goto (tgt := 18) hx hb dX0_frequency_14 (by decide) ?_
    refine W.widen (k := 0) (n := 0) (Nat.le_of_ble_eq_true rfl) (Nat.le_of_ble_eq_true rfl) ?_
    exact hret _ _ _ _ _ _ hf dX0_frequency_18 hP hD hS
def fX0_settings (K : Nat) (μ : XS) : Option (Int32 × XS) :=
  b2 (fX0_isReady K μ) fun r_2 ξ_3 =>
  if r_2 = true then
    some (ξ_3.1 61, ξ_3)
  else
    some ((-1 : Int32), ξ_3)
set_option maxHeartbeats 4000000 in
set_option maxRecDepth 100000 in
theorem tX0_settings (l : Launch) (D : va_G) (d : Nat → ClassId) (z : ZT) (b : Nat → Nat) (fl : Option Nat) (K : Nat) (μ : XS) (r : Int32) (μ' : XS) (hf : fX0_settings K μ = some (r, μ')) : CI l yX0_settings (ws_ yX0_settings cX0_settings 1 (Option.some Jvm.ClassFile.FieldType.int)) (rmc 1 0 0 20) D d z [.ref (b 0)] (XP d z b fl μ) r (XP d z b fl μ') := by
  refine CI.of2 (own := RX0) rfl (by decide) (Nat.le_of_ble_eq_true rfl) rfl ?_
  intro p e s m args below meth c A Q ls S hin hK hP hD hZ hS hA hl hret0
  have hret : ∀ (x : Int32) (μx : XS) (H : Heap) (locs : List Loc) (pc : Nat) (ls' : Array Slot), some (x, μx) = some (r, μ') → decode cX0_settings pc = .ok (.ireturn, 1) → va_P D CL (XP d z b fl μx) H → va_D A (XP d z b fl μx) → va_S A s.heap H locs → W p l e (rmc 1 0 0 20) s m args below meth c H locs 0 0 Q (F0 m pc ls' [.int x]) := by
    intro x μx H locs pc ls' h9 hdg hP hD hS
    obtain ⟨rfl, rfl⟩ := so_2 h9
    exact hret0 H locs pc ls' hdg hP hD hS
  have hx := S.1
  have hb := S.2.1
  have hts := S.2.2.2.2
  have hl : lv_has ls 1 [(0, .ref (b 0))] := hl
  unfold fX0_settings at hf
  refine lv_aload_n hx hb dX0_settings_0 rfl (lv_at hl 0 rfl) ?_
  obtain ⟨r_2, ξ_3, h_1, hf⟩ := b2_some hf
  refine runW_i (va_runV (As := []) (rest := []) S (tX0_isReady l D d z b fl K μ r_2 ξ_3 h_1 _) (cwV 0 hts (lw_V q857 q859 qs18 q94 q860) rfl rfl rfl (by decide +kernel) ⟨(Nat.le_of_ble_eq_true rfl), (Nat.le_of_ble_eq_true rfl)⟩) ⟨Pw.blind, (va_recv hK.1 hP (ci := 1) (q0 := 0) rfl rfl), fun U hU hW => Pw.at hK hP hD hZ hS hA hU hW⟩ rfl rfl hl.1 rfl (lv_room (Nat.le_of_ble_eq_true rfl)) dX0_settings_1 ⟨(Nat.le_of_ble_eq_true rfl), (Nat.le_of_ble_eq_true rfl)⟩) hP hD hS hA ?_
  clear hP hD hS
  intro H locs hP hD hS
  clear h_1
  refine lv_if_eq (tgt := 17) hx hb dX0_settings_4 (by decide) (fun c_4 => ?_) (fun c_4 => ?_)
  · replace hf := it_f hf (bi_e0 c_4)
    clear c_4
    refine lv_iconst (v := -1) hx hb dX0_settings_17 (by decide) ?_
    refine W.widen (k := 0) (n := 0) (Nat.le_of_ble_eq_true rfl) (Nat.le_of_ble_eq_true rfl) ?_
    exact hret _ _ _ _ _ _ hf dX0_settings_18 hP hD hS
  · replace hf := it_t hf (bi_n0 c_4)
    clear c_4
    refine lv_aload_n hx hb dX0_settings_7 rfl (lv_at hl 0 rfl) ?_
    refine g_get hx hb hts S.2.2.2.1 hK hP in_X0 0 rfl rfl 8 (by decide) q293 (fun _ h9 => h9) (v := .ref (b 13)) rfl dX0_settings_8 ?_
    refine g_getN hx hb hts S.2.2.2.1 hK hP in_X8 13 rfl rfl 1 (by decide) q812 (fun _ h9 => h9) (v := .int (ξ_3.1 61)) rfl dX0_settings_11 ?_
    refine lv_goto (tgt := 18) hx hb dX0_settings_14 (by decide) ?_
    refine W.widen (k := 0) (n := 0) (Nat.le_of_ble_eq_true rfl) (Nat.le_of_ble_eq_true rfl) ?_
    exact hret _ _ _ _ _ _ hf dX0_settings_18 hP hD hS
def fX0_inputResistance (K : Nat) (μ : XS) : Option (Int64 × XS) :=
  b2 (fX0_isReady K μ) fun r_2 ξ_3 =>
  if r_2 = true then
    b1 (fX0_here K ξ_3) fun ξ_6 =>
    some (ξ_6.2.1 32, ξ_6)
  else
    some ((-9223372036854775808 : Int64), ξ_3)
set_option maxHeartbeats 4000000 in
set_option maxRecDepth 100000 in
theorem tX0_inputResistance (l : Launch) (D : va_G) (d : Nat → ClassId) (z : ZT) (b : Nat → Nat) (fl : Option Nat) (K : Nat) (μ : XS) (r : Int64) (μ' : XS) (hf : fX0_inputResistance K μ = some (r, μ')) : CJ l yX0_inputResistance (ws_ yX0_inputResistance cX0_inputResistance 1 (Option.some Jvm.ClassFile.FieldType.long)) (rmc 7 0 0 152) D d z [.ref (b 0)] (XP d z b fl μ) r (XP d z b fl μ') := by
  refine CJ.of2 (own := RX0) rfl (by decide) (Nat.le_of_ble_eq_true rfl) ?_
  intro p e s m args below meth c A Q ls S hin hK hP hD hZ hS hA hl hret0
  have hret : ∀ (x : Int64) (μx : XS) (H : Heap) (locs : List Loc) (pc : Nat) (ls' : Array Slot), some (x, μx) = some (r, μ') → decode cX0_inputResistance pc = .ok (.lreturn, 1) → va_P D CL (XP d z b fl μx) H → va_D A (XP d z b fl μx) → va_S A s.heap H locs → W p l e (rmc 7 0 0 152) s m args below meth c H locs 0 0 Q (F0 m pc ls' [.long x]) := by
    intro x μx H locs pc ls' h9 hdg hP hD hS
    obtain ⟨rfl, rfl⟩ := so_2 h9
    exact hret0 H locs pc ls' hdg hP hD hS
  have hx := S.1
  have hb := S.2.1
  have hts := S.2.2.2.2
  have hl : lv_has ls 1 [(0, .ref (b 0))] := hl
  unfold fX0_inputResistance at hf
  refine lv_aload_n hx hb dX0_inputResistance_0 rfl (lv_at hl 0 rfl) ?_
  obtain ⟨r_2, ξ_3, h_1, hf⟩ := b2_some hf
  refine runW_i (va_runV (As := []) (rest := []) S (tX0_isReady l D d z b fl K μ r_2 ξ_3 h_1 _) (cwV 0 hts (lw_V q857 q859 qs18 q94 q860) rfl rfl rfl (by decide +kernel) ⟨(Nat.le_of_ble_eq_true rfl), (Nat.le_of_ble_eq_true rfl)⟩) ⟨Pw.blind, (va_recv hK.1 hP (ci := 1) (q0 := 0) rfl rfl), fun U hU hW => Pw.at hK hP hD hZ hS hA hU hW⟩ rfl rfl hl.1 rfl (lv_room (Nat.le_of_ble_eq_true rfl)) dX0_inputResistance_1 ⟨(Nat.le_of_ble_eq_true rfl), (Nat.le_of_ble_eq_true rfl)⟩) hP hD hS hA ?_
  clear hP hD hS
  intro H locs hP hD hS
  clear h_1
  refine lv_if_eq (tgt := 20) hx hb dX0_inputResistance_4 (by decide) (fun c_4 => ?_) (fun c_4 => ?_)
  · replace hf := it_f hf (bi_e0 c_4)
    clear c_4
    refine lv_ldc2 hx hb S.2.2.2.1 (hts _ q881) dX0_inputResistance_20 ?_
    refine W.widen (k := 0) (n := 0) (Nat.le_of_ble_eq_true rfl) (Nat.le_of_ble_eq_true rfl) ?_
    exact hret _ _ _ _ _ _ hf dX0_inputResistance_23 hP hD hS
  · replace hf := it_t hf (bi_n0 c_4)
    clear c_4
    refine lv_aload_n hx hb dX0_inputResistance_7 rfl (lv_at hl 0 rfl) ?_
    obtain ⟨ξ_6, h_5, hf⟩ := b1_some hf
    refine runW_rS (va_runV (As := []) (rest := []) S (tX0_here l D d z b fl K ξ_3 ξ_6 h_5 _) (cwV 0 hts (lw_V q1093 q1095 qs30 q94 q1096) rfl rfl rfl (by decide +kernel) ⟨(Nat.le_of_ble_eq_true rfl), (Nat.le_of_ble_eq_true rfl)⟩) ⟨Pw.blind, (va_recv hK.1 hP (ci := 1) (q0 := 0) rfl rfl), fun U hU hW => Pw.at hK hP hD hZ hS hA hU hW⟩ rfl rfl hl.1 rfl (lv_room (Nat.le_of_ble_eq_true rfl)) dX0_inputResistance_8 ⟨(Nat.le_of_ble_eq_true rfl), (Nat.le_of_ble_eq_true rfl)⟩) hP hD hS hA ?_
    clear hP hD hS
    intro _ _ H locs hP hD hS
    clear h_5
    refine g_getN hx hb hts S.2.2.2.1 hK hP in_X3 4 rfl rfl 5 (by decide) q239 (fun _ h9 => h9) (v := .ref (b 6)) rfl dX0_inputResistance_11 ?_
    refine g_getN hx hb hts S.2.2.2.1 hK hP in_X1 6 rfl rfl 0 (by decide) q220 (fun _ h9 => h9) (v := .long (ξ_6.2.1 32)) rfl dX0_inputResistance_14 ?_
    refine lv_goto (tgt := 23) hx hb dX0_inputResistance_17 (by decide) ?_
    refine W.widen (k := 0) (n := 0) (Nat.le_of_ble_eq_true rfl) (Nat.le_of_ble_eq_true rfl) ?_
    exact hret _ _ _ _ _ _ hf dX0_inputResistance_23 hP hD hS
def fX0_inputReactance (K : Nat) (μ : XS) : Option (Int64 × XS) :=
  b2 (fX0_isReady K μ) fun r_2 ξ_3 =>
  if r_2 = true then
    b1 (fX0_here K ξ_3) fun ξ_6 =>
    some (ξ_6.2.1 33, ξ_6)
  else
    some ((-9223372036854775808 : Int64), ξ_3)
set_option maxHeartbeats 4000000 in
set_option maxRecDepth 100000 in
theorem tX0_inputReactance (l : Launch) (D : va_G) (d : Nat → ClassId) (z : ZT) (b : Nat → Nat) (fl : Option Nat) (K : Nat) (μ : XS) (r : Int64) (μ' : XS) (hf : fX0_inputReactance K μ = some (r, μ')) : CJ l yX0_inputReactance (ws_ yX0_inputReactance cX0_inputReactance 1 (Option.some Jvm.ClassFile.FieldType.long)) (rmc 7 0 0 152) D d z [.ref (b 0)] (XP d z b fl μ) r (XP d z b fl μ') := by
  refine CJ.of2 (own := RX0) rfl (by decide) (Nat.le_of_ble_eq_true rfl) ?_
  intro p e s m args below meth c A Q ls S hin hK hP hD hZ hS hA hl hret0
  have hret : ∀ (x : Int64) (μx : XS) (H : Heap) (locs : List Loc) (pc : Nat) (ls' : Array Slot), some (x, μx) = some (r, μ') → decode cX0_inputReactance pc = .ok (.lreturn, 1) → va_P D CL (XP d z b fl μx) H → va_D A (XP d z b fl μx) → va_S A s.heap H locs → W p l e (rmc 7 0 0 152) s m args below meth c H locs 0 0 Q (F0 m pc ls' [.long x]) := by
    intro x μx H locs pc ls' h9 hdg hP hD hS
    obtain ⟨rfl, rfl⟩ := so_2 h9
    exact hret0 H locs pc ls' hdg hP hD hS
  have hx := S.1
  have hb := S.2.1
  have hts := S.2.2.2.2
  have hl : lv_has ls 1 [(0, .ref (b 0))] := hl
  unfold fX0_inputReactance at hf
  refine lv_aload_n hx hb dX0_inputReactance_0 rfl (lv_at hl 0 rfl) ?_
  obtain ⟨r_2, ξ_3, h_1, hf⟩ := b2_some hf
  refine runW_i (va_runV (As := []) (rest := []) S (tX0_isReady l D d z b fl K μ r_2 ξ_3 h_1 _) (cwV 0 hts (lw_V q857 q859 qs18 q94 q860) rfl rfl rfl (by decide +kernel) ⟨(Nat.le_of_ble_eq_true rfl), (Nat.le_of_ble_eq_true rfl)⟩) ⟨Pw.blind, (va_recv hK.1 hP (ci := 1) (q0 := 0) rfl rfl), fun U hU hW => Pw.at hK hP hD hZ hS hA hU hW⟩ rfl rfl hl.1 rfl (lv_room (Nat.le_of_ble_eq_true rfl)) dX0_inputReactance_1 ⟨(Nat.le_of_ble_eq_true rfl), (Nat.le_of_ble_eq_true rfl)⟩) hP hD hS hA ?_
  clear hP hD hS
  intro H locs hP hD hS
  clear h_1
  refine lv_if_eq (tgt := 20) hx hb dX0_inputReactance_4 (by decide) (fun c_4 => ?_) (fun c_4 => ?_)
  · replace hf := it_f hf (bi_e0 c_4)
    clear c_4
    refine lv_ldc2 hx hb S.2.2.2.1 (hts _ q881) dX0_inputReactance_20 ?_
    refine W.widen (k := 0) (n := 0) (Nat.le_of_ble_eq_true rfl) (Nat.le_of_ble_eq_true rfl) ?_
    exact hret _ _ _ _ _ _ hf dX0_inputReactance_23 hP hD hS
  · replace hf := it_t hf (bi_n0 c_4)
    clear c_4
    refine lv_aload_n hx hb dX0_inputReactance_7 rfl (lv_at hl 0 rfl) ?_
    obtain ⟨ξ_6, h_5, hf⟩ := b1_some hf
    refine runW_rS (va_runV (As := []) (rest := []) S (tX0_here l D d z b fl K ξ_3 ξ_6 h_5 _) (cwV 0 hts (lw_V q1093 q1095 qs30 q94 q1096) rfl rfl rfl (by decide +kernel) ⟨(Nat.le_of_ble_eq_true rfl), (Nat.le_of_ble_eq_true rfl)⟩) ⟨Pw.blind, (va_recv hK.1 hP (ci := 1) (q0 := 0) rfl rfl), fun U hU hW => Pw.at hK hP hD hZ hS hA hU hW⟩ rfl rfl hl.1 rfl (lv_room (Nat.le_of_ble_eq_true rfl)) dX0_inputReactance_8 ⟨(Nat.le_of_ble_eq_true rfl), (Nat.le_of_ble_eq_true rfl)⟩) hP hD hS hA ?_
    clear hP hD hS
    intro _ _ H locs hP hD hS
    clear h_5
    refine g_getN hx hb hts S.2.2.2.1 hK hP in_X3 4 rfl rfl 5 (by decide) q239 (fun _ h9 => h9) (v := .ref (b 6)) rfl dX0_inputReactance_11 ?_
    refine g_getN hx hb hts S.2.2.2.1 hK hP in_X1 6 rfl rfl 1 (by decide) q223 (fun _ h9 => h9) (v := .long (ξ_6.2.1 33)) rfl dX0_inputReactance_14 ?_
    refine lv_goto (tgt := 23) hx hb dX0_inputReactance_17 (by decide) ?_
    refine W.widen (k := 0) (n := 0) (Nat.le_of_ble_eq_true rfl) (Nat.le_of_ble_eq_true rfl) ?_
    exact hret _ _ _ _ _ _ hf dX0_inputReactance_23 hP hD hS
def fX0_swr (K : Nat) (μ : XS) : Option (Int32 × XS) :=
  b2 (fX0_isReady K μ) fun r_2 ξ_3 =>
  if r_2 = true then
    b1 (fX0_here K ξ_3) fun ξ_6 =>
    b2 (fX3_swr K ξ_6) fun r_8 ξ_9 =>
    some (r_8, ξ_9)
  else
    some ((-1 : Int32), ξ_3)
set_option maxHeartbeats 4000000 in
set_option maxRecDepth 100000 in
theorem tX0_swr (l : Launch) (D : va_G) (d : Nat → ClassId) (z : ZT) (b : Nat → Nat) (fl : Option Nat) (K : Nat) (μ : XS) (r : Int32) (μ' : XS) (hf : fX0_swr K μ = some (r, μ')) : CI l yX0_swr (ws_ yX0_swr cX0_swr 1 (Option.some Jvm.ClassFile.FieldType.int)) (rmc 7 0 0 152) D d z [.ref (b 0)] (XP d z b fl μ) r (XP d z b fl μ') := by
  refine CI.of2 (own := RX0) rfl (by decide) (Nat.le_of_ble_eq_true rfl) rfl ?_
  intro p e s m args below meth c A Q ls S hin hK hP hD hZ hS hA hl hret0
  have hret : ∀ (x : Int32) (μx : XS) (H : Heap) (locs : List Loc) (pc : Nat) (ls' : Array Slot), some (x, μx) = some (r, μ') → decode cX0_swr pc = .ok (.ireturn, 1) → va_P D CL (XP d z b fl μx) H → va_D A (XP d z b fl μx) → va_S A s.heap H locs → W p l e (rmc 7 0 0 152) s m args below meth c H locs 0 0 Q (F0 m pc ls' [.int x]) := by
    intro x μx H locs pc ls' h9 hdg hP hD hS
    obtain ⟨rfl, rfl⟩ := so_2 h9
    exact hret0 H locs pc ls' hdg hP hD hS
  have hx := S.1
  have hb := S.2.1
  have hts := S.2.2.2.2
  have hl : lv_has ls 1 [(0, .ref (b 0))] := hl
  unfold fX0_swr at hf
  refine lv_aload_n hx hb dX0_swr_0 rfl (lv_at hl 0 rfl) ?_
  obtain ⟨r_2, ξ_3, h_1, hf⟩ := b2_some hf
  refine runW_i (va_runV (As := []) (rest := []) S (tX0_isReady l D d z b fl K μ r_2 ξ_3 h_1 _) (cwV 0 hts (lw_V q857 q859 qs18 q94 q860) rfl rfl rfl (by decide +kernel) ⟨(Nat.le_of_ble_eq_true rfl), (Nat.le_of_ble_eq_true rfl)⟩) ⟨Pw.blind, (va_recv hK.1 hP (ci := 1) (q0 := 0) rfl rfl), fun U hU hW => Pw.at hK hP hD hZ hS hA hU hW⟩ rfl rfl hl.1 rfl (lv_room (Nat.le_of_ble_eq_true rfl)) dX0_swr_1 ⟨(Nat.le_of_ble_eq_true rfl), (Nat.le_of_ble_eq_true rfl)⟩) hP hD hS hA ?_
  clear hP hD hS
  intro H locs hP hD hS
  clear h_1
  refine lv_if_eq (tgt := 17) hx hb dX0_swr_4 (by decide) (fun c_4 => ?_) (fun c_4 => ?_)
  · replace hf := it_f hf (bi_e0 c_4)
    clear c_4
    refine lv_iconst (v := -1) hx hb dX0_swr_17 (by decide) ?_
    refine W.widen (k := 0) (n := 0) (Nat.le_of_ble_eq_true rfl) (Nat.le_of_ble_eq_true rfl) ?_
    exact hret _ _ _ _ _ _ hf dX0_swr_18 hP hD hS
  · replace hf := it_t hf (bi_n0 c_4)
    clear c_4
    refine lv_aload_n hx hb dX0_swr_7 rfl (lv_at hl 0 rfl) ?_
    obtain ⟨ξ_6, h_5, hf⟩ := b1_some hf
    refine runW_rS (va_runV (As := []) (rest := []) S (tX0_here l D d z b fl K ξ_3 ξ_6 h_5 _) (cwV 0 hts (lw_V q1093 q1095 qs30 q94 q1096) rfl rfl rfl (by decide +kernel) ⟨(Nat.le_of_ble_eq_true rfl), (Nat.le_of_ble_eq_true rfl)⟩) ⟨Pw.blind, (va_recv hK.1 hP (ci := 1) (q0 := 0) rfl rfl), fun U hU hW => Pw.at hK hP hD hZ hS hA hU hW⟩ rfl rfl hl.1 rfl (lv_room (Nat.le_of_ble_eq_true rfl)) dX0_swr_8 ⟨(Nat.le_of_ble_eq_true rfl), (Nat.le_of_ble_eq_true rfl)⟩) hP hD hS hA ?_
    clear hP hD hS
    intro _ _ H locs hP hD hS
    clear h_5
    obtain ⟨r_8, ξ_9, h_7, hf⟩ := b2_some hf
    refine runW_i (va_runV (As := []) (rest := []) S (tX3_swr l D d z b fl K ξ_6 r_8 ξ_9 h_7 _) (cwV 0 hts (lw_V q1119 q1120 q1121 q98 q1122) rfl rfl rfl (by decide +kernel) ⟨(Nat.le_of_ble_eq_true rfl), (Nat.le_of_ble_eq_true rfl)⟩) ⟨Pw.blind, (va_recv hK.1 hP (ci := 4) (q0 := 4) rfl rfl), fun U hU hW => Pw.at hK hP hD hZ hS hA hU hW⟩ rfl rfl hl.1 rfl (lv_room (Nat.le_of_ble_eq_true rfl)) dX0_swr_11 ⟨(Nat.le_of_ble_eq_true rfl), (Nat.le_of_ble_eq_true rfl)⟩) hP hD hS hA ?_
    clear hP hD hS
    intro H locs hP hD hS
    clear h_7
    refine lv_goto (tgt := 18) hx hb dX0_swr_14 (by decide) ?_
    refine W.widen (k := 0) (n := 0) (Nat.le_of_ble_eq_true rfl) (Nat.le_of_ble_eq_true rfl) ?_
    exact hret _ _ _ _ _ _ hf dX0_swr_18 hP hD hS
def fX0_swrAt (K : Nat) (p0 : Int32) (μ : XS) : Option (Int32 × XS) :=
  b2 (fX0_isReady K μ) fun r_2 ξ_3 =>
  if r_2 = true then
    b1 (fX0_isFrequency K p0) fun r_5 =>
    if r_5 = true then
      b2 (fX0_swrOf K p0 ξ_3) fun r_9 ξ_10 =>
      some (r_9, ξ_10)
    else
      some ((-1 : Int32), ξ_3)
  else
    some ((-1 : Int32), ξ_3)
set_option maxHeartbeats 4000000 in
set_option maxRecDepth 100000 in
theorem tX0_swrAt (l : Launch) (D : va_G) (d : Nat → ClassId) (z : ZT) (b : Nat → Nat) (fl : Option Nat) (K : Nat) (p0 : Int32) (μ : XS) (r : Int32) (μ' : XS) (hf : fX0_swrAt K p0 μ = some (r, μ')) : CI l yX0_swrAt (ws_ yX0_swrAt cX0_swrAt 2 (Option.some Jvm.ClassFile.FieldType.int)) (rmc 7 0 0 153) D d z [.ref (b 0), .int p0] (XP d z b fl μ) r (XP d z b fl μ') := by
  refine CI.of2 (own := RX0) rfl (by decide) (Nat.le_of_ble_eq_true rfl) rfl ?_
  intro p e s m args below meth c A Q ls S hin hK hP hD hZ hS hA hl hret0
  have hret : ∀ (x : Int32) (μx : XS) (H : Heap) (locs : List Loc) (pc : Nat) (ls' : Array Slot), some (x, μx) = some (r, μ') → decode cX0_swrAt pc = .ok (.ireturn, 1) → va_P D CL (XP d z b fl μx) H → va_D A (XP d z b fl μx) → va_S A s.heap H locs → W p l e (rmc 7 0 0 153) s m args below meth c H locs 0 0 Q (F0 m pc ls' [.int x]) := by
    intro x μx H locs pc ls' h9 hdg hP hD hS
    obtain ⟨rfl, rfl⟩ := so_2 h9
    exact hret0 H locs pc ls' hdg hP hD hS
  have hx := S.1
  have hb := S.2.1
  have hts := S.2.2.2.2
  have hl : lv_has ls 2 [(0, .ref (b 0)), (1, .int p0)] := hl
  unfold fX0_swrAt at hf
  refine lv_aload_n hx hb dX0_swrAt_0 rfl (lv_at hl 0 rfl) ?_
  obtain ⟨r_2, ξ_3, h_1, hf⟩ := b2_some hf
  refine runW_i (va_runV (As := []) (rest := []) S (tX0_isReady l D d z b fl K μ r_2 ξ_3 h_1 _) (cwV 0 hts (lw_V q857 q859 qs18 q94 q860) rfl rfl rfl (by decide +kernel) ⟨(Nat.le_of_ble_eq_true rfl), (Nat.le_of_ble_eq_true rfl)⟩) ⟨Pw.blind, (va_recv hK.1 hP (ci := 1) (q0 := 0) rfl rfl), fun U hU hW => Pw.at hK hP hD hZ hS hA hU hW⟩ rfl rfl hl.1 rfl (lv_room (Nat.le_of_ble_eq_true rfl)) dX0_swrAt_1 ⟨(Nat.le_of_ble_eq_true rfl), (Nat.le_of_ble_eq_true rfl)⟩) hP hD hS hA ?_
  clear hP hD hS
  intro H locs hP hD hS
  clear h_1
  refine lv_if_eq (tgt := 22) hx hb dX0_swrAt_4 (by decide) (fun c_4 => ?_) (fun c_4 => ?_)
  · replace hf := it_f hf (bi_e0 c_4)
    clear c_4
    refine lv_iconst (v := -1) hx hb dX0_swrAt_22 (by decide) ?_
    refine W.widen (k := 0) (n := 0) (Nat.le_of_ble_eq_true rfl) (Nat.le_of_ble_eq_true rfl) ?_
    exact hret _ _ _ _ _ _ hf dX0_swrAt_23 hP hD hS
  · replace hf := it_t hf (bi_n0 c_4)
    clear c_4
    refine lv_iload_n hx hb dX0_swrAt_7 rfl (lv_at hl 1 rfl) ?_
    obtain ⟨r_5, h_6, hf⟩ := b1_some hf
    refine si_call S (tX0_isFrequency l K p0 _ h_6) (va_cwS 1 hts (lw_S q861 q862 q94 q863) rfl rfl rfl (by decide +kernel) ⟨(Nat.le_of_ble_eq_true rfl), (Nat.le_of_ble_eq_true rfl)⟩) rfl hl.1 rfl (Nat.le_of_ble_eq_true rfl) ⟨(Nat.le_of_ble_eq_true rfl), (Nat.le_of_ble_eq_true rfl)⟩ dX0_swrAt_8 ?_
    clear h_6
    refine lv_if_eq (tgt := 22) hx hb dX0_swrAt_11 (by decide) (fun c_7 => ?_) (fun c_7 => ?_)
    · replace hf := it_f hf (bi_e0 c_7)
      clear c_7
      refine lv_iconst (v := -1) hx hb dX0_swrAt_22 (by decide) ?_
      refine W.widen (k := 0) (n := 0) (Nat.le_of_ble_eq_true rfl) (Nat.le_of_ble_eq_true rfl) ?_
      exact hret _ _ _ _ _ _ hf dX0_swrAt_23 hP hD hS
    · replace hf := it_t hf (bi_n0 c_7)
      clear c_7
      refine lv_aload_n hx hb dX0_swrAt_14 rfl (lv_at hl 0 rfl) ?_
      refine lv_iload_n hx hb dX0_swrAt_15 rfl (lv_at hl 1 rfl) ?_
      obtain ⟨r_9, ξ_10, h_8, hf⟩ := b2_some hf
      refine runW_i (va_runV (As := [.int p0]) (rest := []) S (tX0_swrOf l D d z b fl K p0 ξ_3 r_9 ξ_10 h_8 _) (cwV 1 hts (lw_V q1140 q1142 qs31 q94 q1143) rfl rfl rfl (by decide +kernel) ⟨(Nat.le_of_ble_eq_true rfl), (Nat.le_of_ble_eq_true rfl)⟩) ⟨Pw.blind, (va_recv hK.1 hP (ci := 1) (q0 := 0) rfl rfl), fun U hU hW => Pw.at hK hP hD hZ hS hA hU hW⟩ rfl rfl hl.1 rfl (lv_room (Nat.le_of_ble_eq_true rfl)) dX0_swrAt_16 ⟨(Nat.le_of_ble_eq_true rfl), (Nat.le_of_ble_eq_true rfl)⟩) hP hD hS hA ?_
      clear hP hD hS
      intro H locs hP hD hS
      clear h_8
      refine lv_goto (tgt := 23) hx hb dX0_swrAt_19 (by decide) ?_
      refine W.widen (k := 0) (n := 0) (Nat.le_of_ble_eq_true rfl) (Nat.le_of_ble_eq_true rfl) ?_
      exact hret _ _ _ _ _ _ hf dX0_swrAt_23 hP hD hS
def fX0_efficiency (K : Nat) (μ : XS) : Option (Int32 × XS) :=
  b2 (fX0_isReady K μ) fun r_2 ξ_3 =>
  if r_2 = true then
    b1 (fX0_here K ξ_3) fun ξ_6 =>
    b2 (fX3_efficiency K ξ_6) fun r_8 ξ_9 =>
    some (r_8, ξ_9)
  else
    some ((-1 : Int32), ξ_3)
set_option maxHeartbeats 4000000 in
set_option maxRecDepth 100000 in
theorem tX0_efficiency (l : Launch) (D : va_G) (d : Nat → ClassId) (z : ZT) (b : Nat → Nat) (fl : Option Nat) (K : Nat) (μ : XS) (r : Int32) (μ' : XS) (hf : fX0_efficiency K μ = some (r, μ')) : CI l yX0_efficiency (ws_ yX0_efficiency cX0_efficiency 1 (Option.some Jvm.ClassFile.FieldType.int)) (rmc 7 0 0 152) D d z [.ref (b 0)] (XP d z b fl μ) r (XP d z b fl μ') := by
  refine CI.of2 (own := RX0) rfl (by decide) (Nat.le_of_ble_eq_true rfl) rfl ?_
  intro p e s m args below meth c A Q ls S hin hK hP hD hZ hS hA hl hret0
  have hret : ∀ (x : Int32) (μx : XS) (H : Heap) (locs : List Loc) (pc : Nat) (ls' : Array Slot), some (x, μx) = some (r, μ') → decode cX0_efficiency pc = .ok (.ireturn, 1) → va_P D CL (XP d z b fl μx) H → va_D A (XP d z b fl μx) → va_S A s.heap H locs → W p l e (rmc 7 0 0 152) s m args below meth c H locs 0 0 Q (F0 m pc ls' [.int x]) := by
    intro x μx H locs pc ls' h9 hdg hP hD hS
    obtain ⟨rfl, rfl⟩ := so_2 h9
    exact hret0 H locs pc ls' hdg hP hD hS
  have hx := S.1
  have hb := S.2.1
  have hts := S.2.2.2.2
  have hl : lv_has ls 1 [(0, .ref (b 0))] := hl
  unfold fX0_efficiency at hf
  refine lv_aload_n hx hb dX0_efficiency_0 rfl (lv_at hl 0 rfl) ?_
  obtain ⟨r_2, ξ_3, h_1, hf⟩ := b2_some hf
  refine runW_i (va_runV (As := []) (rest := []) S (tX0_isReady l D d z b fl K μ r_2 ξ_3 h_1 _) (cwV 0 hts (lw_V q857 q859 qs18 q94 q860) rfl rfl rfl (by decide +kernel) ⟨(Nat.le_of_ble_eq_true rfl), (Nat.le_of_ble_eq_true rfl)⟩) ⟨Pw.blind, (va_recv hK.1 hP (ci := 1) (q0 := 0) rfl rfl), fun U hU hW => Pw.at hK hP hD hZ hS hA hU hW⟩ rfl rfl hl.1 rfl (lv_room (Nat.le_of_ble_eq_true rfl)) dX0_efficiency_1 ⟨(Nat.le_of_ble_eq_true rfl), (Nat.le_of_ble_eq_true rfl)⟩) hP hD hS hA ?_
  clear hP hD hS
  intro H locs hP hD hS
  clear h_1
  refine lv_if_eq (tgt := 17) hx hb dX0_efficiency_4 (by decide) (fun c_4 => ?_) (fun c_4 => ?_)
  · replace hf := it_f hf (bi_e0 c_4)
    clear c_4
    refine lv_iconst (v := -1) hx hb dX0_efficiency_17 (by decide) ?_
    refine W.widen (k := 0) (n := 0) (Nat.le_of_ble_eq_true rfl) (Nat.le_of_ble_eq_true rfl) ?_
    exact hret _ _ _ _ _ _ hf dX0_efficiency_18 hP hD hS
  · replace hf := it_t hf (bi_n0 c_4)
    clear c_4
    refine lv_aload_n hx hb dX0_efficiency_7 rfl (lv_at hl 0 rfl) ?_
    obtain ⟨ξ_6, h_5, hf⟩ := b1_some hf
    refine runW_rS (va_runV (As := []) (rest := []) S (tX0_here l D d z b fl K ξ_3 ξ_6 h_5 _) (cwV 0 hts (lw_V q1093 q1095 qs30 q94 q1096) rfl rfl rfl (by decide +kernel) ⟨(Nat.le_of_ble_eq_true rfl), (Nat.le_of_ble_eq_true rfl)⟩) ⟨Pw.blind, (va_recv hK.1 hP (ci := 1) (q0 := 0) rfl rfl), fun U hU hW => Pw.at hK hP hD hZ hS hA hU hW⟩ rfl rfl hl.1 rfl (lv_room (Nat.le_of_ble_eq_true rfl)) dX0_efficiency_8 ⟨(Nat.le_of_ble_eq_true rfl), (Nat.le_of_ble_eq_true rfl)⟩) hP hD hS hA ?_
    clear hP hD hS
    intro _ _ H locs hP hD hS
    clear h_5
    obtain ⟨r_8, ξ_9, h_7, hf⟩ := b2_some hf
    refine runW_i (va_runV (As := []) (rest := []) S (tX3_efficiency l D d z b fl K ξ_6 r_8 ξ_9 h_7 _) (cwV 0 hts (lw_V q1156 q1157 q1158 q98 q1159) rfl rfl rfl (by decide +kernel) ⟨(Nat.le_of_ble_eq_true rfl), (Nat.le_of_ble_eq_true rfl)⟩) ⟨Pw.blind, (va_recv hK.1 hP (ci := 4) (q0 := 4) rfl rfl), fun U hU hW => Pw.at hK hP hD hZ hS hA hU hW⟩ rfl rfl hl.1 rfl (lv_room (Nat.le_of_ble_eq_true rfl)) dX0_efficiency_11 ⟨(Nat.le_of_ble_eq_true rfl), (Nat.le_of_ble_eq_true rfl)⟩) hP hD hS hA ?_
    clear hP hD hS
    intro H locs hP hD hS
    clear h_7
    refine lv_goto (tgt := 18) hx hb dX0_efficiency_14 (by decide) ?_
    refine W.widen (k := 0) (n := 0) (Nat.le_of_ble_eq_true rfl) (Nat.le_of_ble_eq_true rfl) ?_
    exact hret _ _ _ _ _ _ hf dX0_efficiency_18 hP hD hS
def fX0_capacitorVoltage (K : Nat) (μ : XS) : Option (Int32 × XS) :=
  b2 (fX0_isReady K μ) fun r_2 ξ_3 =>
  if r_2 = true then
    b1 (fX0_here K ξ_3) fun ξ_6 =>
    b2 (fX3_voltage K ξ_6) fun r_8 ξ_9 =>
    some (r_8, ξ_9)
  else
    some ((-1 : Int32), ξ_3)
set_option maxHeartbeats 4000000 in
set_option maxRecDepth 100000 in
theorem tX0_capacitorVoltage (l : Launch) (D : va_G) (d : Nat → ClassId) (z : ZT) (b : Nat → Nat) (fl : Option Nat) (K : Nat) (μ : XS) (r : Int32) (μ' : XS) (hf : fX0_capacitorVoltage K μ = some (r, μ')) : CI l yX0_capacitorVoltage (ws_ yX0_capacitorVoltage cX0_capacitorVoltage 1 (Option.some Jvm.ClassFile.FieldType.int)) (rmc 7 0 0 152) D d z [.ref (b 0)] (XP d z b fl μ) r (XP d z b fl μ') := by
  refine CI.of2 (own := RX0) rfl (by decide) (Nat.le_of_ble_eq_true rfl) rfl ?_
  intro p e s m args below meth c A Q ls S hin hK hP hD hZ hS hA hl hret0
  have hret : ∀ (x : Int32) (μx : XS) (H : Heap) (locs : List Loc) (pc : Nat) (ls' : Array Slot), some (x, μx) = some (r, μ') → decode cX0_capacitorVoltage pc = .ok (.ireturn, 1) → va_P D CL (XP d z b fl μx) H → va_D A (XP d z b fl μx) → va_S A s.heap H locs → W p l e (rmc 7 0 0 152) s m args below meth c H locs 0 0 Q (F0 m pc ls' [.int x]) := by
    intro x μx H locs pc ls' h9 hdg hP hD hS
    obtain ⟨rfl, rfl⟩ := so_2 h9
    exact hret0 H locs pc ls' hdg hP hD hS
  have hx := S.1
  have hb := S.2.1
  have hts := S.2.2.2.2
  have hl : lv_has ls 1 [(0, .ref (b 0))] := hl
  unfold fX0_capacitorVoltage at hf
  refine lv_aload_n hx hb dX0_capacitorVoltage_0 rfl (lv_at hl 0 rfl) ?_
  obtain ⟨r_2, ξ_3, h_1, hf⟩ := b2_some hf
  refine runW_i (va_runV (As := []) (rest := []) S (tX0_isReady l D d z b fl K μ r_2 ξ_3 h_1 _) (cwV 0 hts (lw_V q857 q859 qs18 q94 q860) rfl rfl rfl (by decide +kernel) ⟨(Nat.le_of_ble_eq_true rfl), (Nat.le_of_ble_eq_true rfl)⟩) ⟨Pw.blind, (va_recv hK.1 hP (ci := 1) (q0 := 0) rfl rfl), fun U hU hW => Pw.at hK hP hD hZ hS hA hU hW⟩ rfl rfl hl.1 rfl (lv_room (Nat.le_of_ble_eq_true rfl)) dX0_capacitorVoltage_1 ⟨(Nat.le_of_ble_eq_true rfl), (Nat.le_of_ble_eq_true rfl)⟩) hP hD hS hA ?_
  clear hP hD hS
  intro H locs hP hD hS
  clear h_1
  refine lv_if_eq (tgt := 17) hx hb dX0_capacitorVoltage_4 (by decide) (fun c_4 => ?_) (fun c_4 => ?_)
  · replace hf := it_f hf (bi_e0 c_4)
    clear c_4
    refine lv_iconst (v := -1) hx hb dX0_capacitorVoltage_17 (by decide) ?_
    refine W.widen (k := 0) (n := 0) (Nat.le_of_ble_eq_true rfl) (Nat.le_of_ble_eq_true rfl) ?_
    exact hret _ _ _ _ _ _ hf dX0_capacitorVoltage_18 hP hD hS
  · replace hf := it_t hf (bi_n0 c_4)
    clear c_4
    refine lv_aload_n hx hb dX0_capacitorVoltage_7 rfl (lv_at hl 0 rfl) ?_
    obtain ⟨ξ_6, h_5, hf⟩ := b1_some hf
    refine runW_rS (va_runV (As := []) (rest := []) S (tX0_here l D d z b fl K ξ_3 ξ_6 h_5 _) (cwV 0 hts (lw_V q1093 q1095 qs30 q94 q1096) rfl rfl rfl (by decide +kernel) ⟨(Nat.le_of_ble_eq_true rfl), (Nat.le_of_ble_eq_true rfl)⟩) ⟨Pw.blind, (va_recv hK.1 hP (ci := 1) (q0 := 0) rfl rfl), fun U hU hW => Pw.at hK hP hD hZ hS hA hU hW⟩ rfl rfl hl.1 rfl (lv_room (Nat.le_of_ble_eq_true rfl)) dX0_capacitorVoltage_8 ⟨(Nat.le_of_ble_eq_true rfl), (Nat.le_of_ble_eq_true rfl)⟩) hP hD hS hA ?_
    clear hP hD hS
    intro _ _ H locs hP hD hS
    clear h_5
    obtain ⟨r_8, ξ_9, h_7, hf⟩ := b2_some hf
    refine runW_i (va_runV (As := []) (rest := []) S (tX3_voltage l D d z b fl K ξ_6 r_8 ξ_9 h_7 _) (cwV 0 hts (lw_V q1165 q1166 q1167 q98 q1168) rfl rfl rfl (by decide +kernel) ⟨(Nat.le_of_ble_eq_true rfl), (Nat.le_of_ble_eq_true rfl)⟩) ⟨Pw.blind, (va_recv hK.1 hP (ci := 4) (q0 := 4) rfl rfl), fun U hU hW => Pw.at hK hP hD hZ hS hA hU hW⟩ rfl rfl hl.1 rfl (lv_room (Nat.le_of_ble_eq_true rfl)) dX0_capacitorVoltage_11 ⟨(Nat.le_of_ble_eq_true rfl), (Nat.le_of_ble_eq_true rfl)⟩) hP hD hS hA ?_
    clear hP hD hS
    intro H locs hP hD hS
    clear h_7
    refine lv_goto (tgt := 18) hx hb dX0_capacitorVoltage_14 (by decide) ?_
    refine W.widen (k := 0) (n := 0) (Nat.le_of_ble_eq_true rfl) (Nat.le_of_ble_eq_true rfl) ?_
    exact hret _ _ _ _ _ _ hf dX0_capacitorVoltage_18 hP hD hS
def fX0_greatestPower_L18 (K : Nat) : Nat → Int32 → XS → Option (Int32 × XS)
  | 0, _, _ => none
  | n + 1, x18_1, μ18 =>
    if x18_1 < (1 : Int32) then
      some ((-2 : Int32), μ18)
    else
      b2 (fX3_voltageWith K x18_1 μ18) fun r_9 ξ_10 =>
      if (ξ_10.1 44) < r_9 then
        fX0_greatestPower_L18 K n (x18_1 + (-1 : Int32)) ξ_10
      else
        some (x18_1, ξ_10)
def fX0_greatestPower (K : Nat) (μ : XS) : Option (Int32 × XS) :=
  b2 (fX0_isReady K μ) fun r_2 ξ_3 =>
  if r_2 = true then
    b1 (fX0_here K ξ_3) fun ξ_6 =>
    fX0_greatestPower_L18 K K (1500 : Int32) ξ_6
  else
    some ((-1 : Int32), ξ_3)
set_option maxHeartbeats 4000000 in
set_option maxRecDepth 100000 in
theorem tX0_greatestPower (l : Launch) (D : va_G) (d : Nat → ClassId) (z : ZT) (b : Nat → Nat) (fl : Option Nat) (K : Nat) (μ : XS) (r : Int32) (μ' : XS) (hf : fX0_greatestPower K μ = some (r, μ')) : CI l yX0_greatestPower (ws_ yX0_greatestPower cX0_greatestPower 2 (Option.some Jvm.ClassFile.FieldType.int)) (rmc 7 0 0 152) D d z [.ref (b 0)] (XP d z b fl μ) r (XP d z b fl μ') := by
  refine CI.of2 (own := RX0) rfl (by decide) (Nat.le_of_ble_eq_true rfl) rfl ?_
  intro p e s m args below meth c A Q ls S hin hK hP hD hZ hS hA hl hret0
  have hret : ∀ (x : Int32) (μx : XS) (H : Heap) (locs : List Loc) (pc : Nat) (ls' : Array Slot), some (x, μx) = some (r, μ') → decode cX0_greatestPower pc = .ok (.ireturn, 1) → va_P D CL (XP d z b fl μx) H → va_D A (XP d z b fl μx) → va_S A s.heap H locs → W p l e (rmc 7 0 0 152) s m args below meth c H locs 0 0 Q (F0 m pc ls' [.int x]) := by
    intro x μx H locs pc ls' h9 hdg hP hD hS
    obtain ⟨rfl, rfl⟩ := so_2 h9
    exact hret0 H locs pc ls' hdg hP hD hS
  have hx := S.1
  have hb := S.2.1
  have hts := S.2.2.2.2
  have hl : lv_has ls 2 [(0, .ref (b 0))] := hl
  have L18 : ∀ (n : Nat) (x18_1 : Int32) (μ18 : XS) (H : Heap) (locs : List Loc) (ls : Array Slot), fX0_greatestPower_L18 K n x18_1 μ18 = some (r, μ') → va_P D CL (XP d z b fl μ18) H → va_D A (XP d z b fl μ18) → va_S A s.heap H locs → lv_has ls 2 [(0, .ref (b 0)), (1, .int x18_1)] → W p l e (rmc 7 0 0 152) s m args below meth c H locs 0 0 Q (F0 m 18 ls []) := by
    intro n
    induction n with
    | zero =>
      intro x18_1 μ18 H locs ls hf hP hD hS hl
      rw [fX0_greatestPower_L18] at hf
      cases hf
    | succ n ih =>
      intro x18_1 μ18 H locs ls hf hP hD hS hl
      rw [fX0_greatestPower_L18] at hf
      refine lv_iload_n hx hb dX0_greatestPower_18 rfl (lv_at hl 1 rfl) ?_
      refine lv_iconst (v := 1) hx hb dX0_greatestPower_19 (by decide) ?_
      refine lv_icmp_lt (tgt := 49) hx hb dX0_greatestPower_20 (by decide) (fun c_7 => ?_) (fun c_7 => ?_)
      · replace hf := it_t hf c_7
        clear c_7
        refine lv_bipush (v := -2) hx hb dX0_greatestPower_49 (by decide) ?_
        refine W.widen (k := 0) (n := 0) (Nat.le_of_ble_eq_true rfl) (Nat.le_of_ble_eq_true rfl) ?_
        exact hret _ _ _ _ _ _ hf dX0_greatestPower_51 hP hD hS
      · replace hf := it_f hf c_7
        clear c_7
        refine lv_aload_n hx hb dX0_greatestPower_23 rfl (lv_at hl 0 rfl) ?_
        refine g_get hx hb hts S.2.2.2.1 hK hP in_X0 0 rfl rfl 5 (by decide) q286 (fun _ h9 => h9) (v := .ref (b 4)) rfl dX0_greatestPower_24 ?_
        refine lv_iload_n hx hb dX0_greatestPower_27 rfl (lv_at hl 1 rfl) ?_
        obtain ⟨r_9, ξ_10, h_8, hf⟩ := b2_some hf
        refine runW_i (va_runV (As := [.int x18_1]) (rest := []) S (tX3_voltageWith l D d z b fl K x18_1 μ18 r_9 ξ_10 h_8 _) (cwV 1 hts (lw_V q1184 q1170 q1171 q98 q1172) rfl rfl rfl (by decide +kernel) ⟨(Nat.le_of_ble_eq_true rfl), (Nat.le_of_ble_eq_true rfl)⟩) ⟨Pw.blind, (va_recv hK.1 hP (ci := 4) (q0 := 4) rfl rfl), fun U hU hW => Pw.at hK hP hD hZ hS hA hU hW⟩ rfl rfl hl.1 rfl (lv_room (Nat.le_of_ble_eq_true rfl)) dX0_greatestPower_28 ⟨(Nat.le_of_ble_eq_true rfl), (Nat.le_of_ble_eq_true rfl)⟩) hP hD hS hA ?_
        clear hP hD hS
        intro H locs hP hD hS
        clear h_8
        refine lv_aload_n hx hb dX0_greatestPower_31 rfl (lv_at hl 0 rfl) ?_
        refine g_get hx hb hts S.2.2.2.1 hK hP in_X0 0 rfl rfl 7 (by decide) q291 (fun _ h9 => h9) (v := .ref (b 7)) rfl dX0_greatestPower_32 ?_
        refine g_getN hx hb hts S.2.2.2.1 hK hP in_X6 7 rfl rfl 4 (by decide) q361 (fun _ h9 => h9) (v := .int (ξ_10.1 44)) rfl dX0_greatestPower_35 ?_
        refine lv_icmp_gt (tgt := 43) hx hb dX0_greatestPower_38 (by decide) (fun c_11 => ?_) (fun c_11 => ?_)
        · replace hf := it_t hf c_11
          clear c_11
          refine lv_iinc (v := x18_1 + (-1 : Int32)) (lv' := [(1, .int (x18_1 + (-1 : Int32))), (0, .ref (b 0))]) hx hb dX0_greatestPower_43 hl (k := 1) rfl rfl (by decide) rfl (fun ls hl => ?_)
          refine lv_goto (tgt := 18) hx hb dX0_greatestPower_46 (by decide) ?_
          exact ih (x18_1 + (-1 : Int32)) ξ_10 _ _ _ hf hP hD hS (lv_sub hl [1, 0] rfl)
        · replace hf := it_f hf c_11
          clear c_11
          refine lv_iload_n hx hb dX0_greatestPower_41 rfl (lv_at hl 1 rfl) ?_
          refine W.widen (k := 0) (n := 0) (Nat.le_of_ble_eq_true rfl) (Nat.le_of_ble_eq_true rfl) ?_
          exact hret _ _ _ _ _ _ hf dX0_greatestPower_42 hP hD hS
  unfold fX0_greatestPower at hf
  refine lv_aload_n hx hb dX0_greatestPower_0 rfl (lv_at hl 0 rfl) ?_
  obtain ⟨r_2, ξ_3, h_1, hf⟩ := b2_some hf
  refine runW_i (va_runV (As := []) (rest := []) S (tX0_isReady l D d z b fl K μ r_2 ξ_3 h_1 _) (cwV 0 hts (lw_V q857 q859 qs18 q94 q860) rfl rfl rfl (by decide +kernel) ⟨(Nat.le_of_ble_eq_true rfl), (Nat.le_of_ble_eq_true rfl)⟩) ⟨Pw.blind, (va_recv hK.1 hP (ci := 1) (q0 := 0) rfl rfl), fun U hU hW => Pw.at hK hP hD hZ hS hA hU hW⟩ rfl rfl hl.1 rfl (lv_room (Nat.le_of_ble_eq_true rfl)) dX0_greatestPower_1 ⟨(Nat.le_of_ble_eq_true rfl), (Nat.le_of_ble_eq_true rfl)⟩) hP hD hS hA ?_
  clear hP hD hS
  intro H locs hP hD hS
  clear h_1
  refine lv_if_ne (tgt := 9) hx hb dX0_greatestPower_4 (by decide) (fun c_4 => ?_) (fun c_4 => ?_)
  · replace hf := it_t hf (bi_n0 c_4)
    clear c_4
    refine lv_aload_n hx hb dX0_greatestPower_9 rfl (lv_at hl 0 rfl) ?_
    obtain ⟨ξ_6, h_5, hf⟩ := b1_some hf
    refine runW_rS (va_runV (As := []) (rest := []) S (tX0_here l D d z b fl K ξ_3 ξ_6 h_5 _) (cwV 0 hts (lw_V q1093 q1095 qs30 q94 q1096) rfl rfl rfl (by decide +kernel) ⟨(Nat.le_of_ble_eq_true rfl), (Nat.le_of_ble_eq_true rfl)⟩) ⟨Pw.blind, (va_recv hK.1 hP (ci := 1) (q0 := 0) rfl rfl), fun U hU hW => Pw.at hK hP hD hZ hS hA hU hW⟩ rfl rfl hl.1 rfl (lv_room (Nat.le_of_ble_eq_true rfl)) dX0_greatestPower_10 ⟨(Nat.le_of_ble_eq_true rfl), (Nat.le_of_ble_eq_true rfl)⟩) hP hD hS hA ?_
    clear hP hD hS
    intro _ _ H locs hP hD hS
    clear h_5
    refine lv_pop hx hb dX0_greatestPower_13 rfl ?_
    refine lv_sipush (v := 1500) hx hb dX0_greatestPower_14 (by decide) ?_
    refine lv_istore_n (lv' := [(1, .int (1500 : Int32)), (0, .ref (b 0))]) hx hb dX0_greatestPower_17 rfl hl (by decide) rfl (fun ls hl => ?_)
    exact L18 K (1500 : Int32) ξ_6 _ _ _ hf hP hD hS (lv_sub hl [1, 0] rfl)
  · replace hf := it_f hf (bi_e0 c_4)
    clear c_4
    refine lv_iconst (v := -1) hx hb dX0_greatestPower_7 (by decide) ?_
    refine W.widen (k := 0) (n := 0) (Nat.le_of_ble_eq_true rfl) (Nat.le_of_ble_eq_true rfl) ?_
    exact hret _ _ _ _ _ _ hf dX0_greatestPower_8 hP hD hS
def fX0_highestMatched (K : Nat) (μ : XS) : Option (Int32 × XS) :=
  b2 (fX0_isReady K μ) fun r_2 ξ_3 =>
  if r_2 = true then
    b2 (fX0_farthestMatched K (10 : Int32) ξ_3) fun r_6 ξ_7 =>
    some (r_6, ξ_7)
  else
    some ((-1 : Int32), ξ_3)
set_option maxHeartbeats 4000000 in
set_option maxRecDepth 100000 in
theorem tX0_highestMatched (l : Launch) (D : va_G) (d : Nat → ClassId) (z : ZT) (b : Nat → Nat) (fl : Option Nat) (K : Nat) (μ : XS) (r : Int32) (μ' : XS) (hf : fX0_highestMatched K μ = some (r, μ')) : CI l yX0_highestMatched (ws_ yX0_highestMatched cX0_highestMatched 1 (Option.some Jvm.ClassFile.FieldType.int)) (rmc 9 0 0 196) D d z [.ref (b 0)] (XP d z b fl μ) r (XP d z b fl μ') := by
  refine CI.of2 (own := RX0) rfl (by decide) (Nat.le_of_ble_eq_true rfl) rfl ?_
  intro p e s m args below meth c A Q ls S hin hK hP hD hZ hS hA hl hret0
  have hret : ∀ (x : Int32) (μx : XS) (H : Heap) (locs : List Loc) (pc : Nat) (ls' : Array Slot), some (x, μx) = some (r, μ') → decode cX0_highestMatched pc = .ok (.ireturn, 1) → va_P D CL (XP d z b fl μx) H → va_D A (XP d z b fl μx) → va_S A s.heap H locs → W p l e (rmc 9 0 0 196) s m args below meth c H locs 0 0 Q (F0 m pc ls' [.int x]) := by
    intro x μx H locs pc ls' h9 hdg hP hD hS
    obtain ⟨rfl, rfl⟩ := so_2 h9
    exact hret0 H locs pc ls' hdg hP hD hS
  have hx := S.1
  have hb := S.2.1
  have hts := S.2.2.2.2
  have hl : lv_has ls 1 [(0, .ref (b 0))] := hl
  unfold fX0_highestMatched at hf
  refine lv_aload_n hx hb dX0_highestMatched_0 rfl (lv_at hl 0 rfl) ?_
  obtain ⟨r_2, ξ_3, h_1, hf⟩ := b2_some hf
  refine runW_i (va_runV (As := []) (rest := []) S (tX0_isReady l D d z b fl K μ r_2 ξ_3 h_1 _) (cwV 0 hts (lw_V q857 q859 qs18 q94 q860) rfl rfl rfl (by decide +kernel) ⟨(Nat.le_of_ble_eq_true rfl), (Nat.le_of_ble_eq_true rfl)⟩) ⟨Pw.blind, (va_recv hK.1 hP (ci := 1) (q0 := 0) rfl rfl), fun U hU hW => Pw.at hK hP hD hZ hS hA hU hW⟩ rfl rfl hl.1 rfl (lv_room (Nat.le_of_ble_eq_true rfl)) dX0_highestMatched_1 ⟨(Nat.le_of_ble_eq_true rfl), (Nat.le_of_ble_eq_true rfl)⟩) hP hD hS hA ?_
  clear hP hD hS
  intro H locs hP hD hS
  clear h_1
  refine lv_if_eq (tgt := 16) hx hb dX0_highestMatched_4 (by decide) (fun c_4 => ?_) (fun c_4 => ?_)
  · replace hf := it_f hf (bi_e0 c_4)
    clear c_4
    refine lv_iconst (v := -1) hx hb dX0_highestMatched_16 (by decide) ?_
    refine W.widen (k := 0) (n := 0) (Nat.le_of_ble_eq_true rfl) (Nat.le_of_ble_eq_true rfl) ?_
    exact hret _ _ _ _ _ _ hf dX0_highestMatched_17 hP hD hS
  · replace hf := it_t hf (bi_n0 c_4)
    clear c_4
    refine lv_aload_n hx hb dX0_highestMatched_7 rfl (lv_at hl 0 rfl) ?_
    refine lv_bipush (v := 10) hx hb dX0_highestMatched_8 (by decide) ?_
    obtain ⟨r_6, ξ_7, h_5, hf⟩ := b2_some hf
    refine runW_i (va_runV (As := [.int (10 : Int32)]) (rest := []) S (tX0_farthestMatched l D d z b fl K (10 : Int32) ξ_3 r_6 ξ_7 h_5 _) (cwV 1 hts (lw_V q1189 q1191 qs33 q94 q1192) rfl rfl rfl (by decide +kernel) ⟨(Nat.le_of_ble_eq_true rfl), (Nat.le_of_ble_eq_true rfl)⟩) ⟨Pw.blind, (va_recv hK.1 hP (ci := 1) (q0 := 0) rfl rfl), fun U hU hW => Pw.at hK hP hD hZ hS hA hU hW⟩ rfl rfl hl.1 rfl (lv_room (Nat.le_of_ble_eq_true rfl)) dX0_highestMatched_10 ⟨(Nat.le_of_ble_eq_true rfl), (Nat.le_of_ble_eq_true rfl)⟩) hP hD hS hA ?_
    clear hP hD hS
    intro H locs hP hD hS
    clear h_5
    refine lv_goto (tgt := 17) hx hb dX0_highestMatched_13 (by decide) ?_
    refine W.widen (k := 0) (n := 0) (Nat.le_of_ble_eq_true rfl) (Nat.le_of_ble_eq_true rfl) ?_
    exact hret _ _ _ _ _ _ hf dX0_highestMatched_17 hP hD hS
def fX0_lowestMatched (K : Nat) (μ : XS) : Option (Int32 × XS) :=
  b2 (fX0_isReady K μ) fun r_2 ξ_3 =>
  if r_2 = true then
    b2 (fX0_farthestMatched K (-10 : Int32) ξ_3) fun r_6 ξ_7 =>
    some (r_6, ξ_7)
  else
    some ((-1 : Int32), ξ_3)
set_option maxHeartbeats 4000000 in
set_option maxRecDepth 100000 in
theorem tX0_lowestMatched (l : Launch) (D : va_G) (d : Nat → ClassId) (z : ZT) (b : Nat → Nat) (fl : Option Nat) (K : Nat) (μ : XS) (r : Int32) (μ' : XS) (hf : fX0_lowestMatched K μ = some (r, μ')) : CI l yX0_lowestMatched (ws_ yX0_lowestMatched cX0_lowestMatched 1 (Option.some Jvm.ClassFile.FieldType.int)) (rmc 9 0 0 196) D d z [.ref (b 0)] (XP d z b fl μ) r (XP d z b fl μ') := by
  refine CI.of2 (own := RX0) rfl (by decide) (Nat.le_of_ble_eq_true rfl) rfl ?_
  intro p e s m args below meth c A Q ls S hin hK hP hD hZ hS hA hl hret0
  have hret : ∀ (x : Int32) (μx : XS) (H : Heap) (locs : List Loc) (pc : Nat) (ls' : Array Slot), some (x, μx) = some (r, μ') → decode cX0_lowestMatched pc = .ok (.ireturn, 1) → va_P D CL (XP d z b fl μx) H → va_D A (XP d z b fl μx) → va_S A s.heap H locs → W p l e (rmc 9 0 0 196) s m args below meth c H locs 0 0 Q (F0 m pc ls' [.int x]) := by
    intro x μx H locs pc ls' h9 hdg hP hD hS
    obtain ⟨rfl, rfl⟩ := so_2 h9
    exact hret0 H locs pc ls' hdg hP hD hS
  have hx := S.1
  have hb := S.2.1
  have hts := S.2.2.2.2
  have hl : lv_has ls 1 [(0, .ref (b 0))] := hl
  unfold fX0_lowestMatched at hf
  refine lv_aload_n hx hb dX0_lowestMatched_0 rfl (lv_at hl 0 rfl) ?_
  obtain ⟨r_2, ξ_3, h_1, hf⟩ := b2_some hf
  refine runW_i (va_runV (As := []) (rest := []) S (tX0_isReady l D d z b fl K μ r_2 ξ_3 h_1 _) (cwV 0 hts (lw_V q857 q859 qs18 q94 q860) rfl rfl rfl (by decide +kernel) ⟨(Nat.le_of_ble_eq_true rfl), (Nat.le_of_ble_eq_true rfl)⟩) ⟨Pw.blind, (va_recv hK.1 hP (ci := 1) (q0 := 0) rfl rfl), fun U hU hW => Pw.at hK hP hD hZ hS hA hU hW⟩ rfl rfl hl.1 rfl (lv_room (Nat.le_of_ble_eq_true rfl)) dX0_lowestMatched_1 ⟨(Nat.le_of_ble_eq_true rfl), (Nat.le_of_ble_eq_true rfl)⟩) hP hD hS hA ?_
  clear hP hD hS
  intro H locs hP hD hS
  clear h_1
  refine lv_if_eq (tgt := 16) hx hb dX0_lowestMatched_4 (by decide) (fun c_4 => ?_) (fun c_4 => ?_)
  · replace hf := it_f hf (bi_e0 c_4)
    clear c_4
    refine lv_iconst (v := -1) hx hb dX0_lowestMatched_16 (by decide) ?_
    refine W.widen (k := 0) (n := 0) (Nat.le_of_ble_eq_true rfl) (Nat.le_of_ble_eq_true rfl) ?_
    exact hret _ _ _ _ _ _ hf dX0_lowestMatched_17 hP hD hS
  · replace hf := it_t hf (bi_n0 c_4)
    clear c_4
    refine lv_aload_n hx hb dX0_lowestMatched_7 rfl (lv_at hl 0 rfl) ?_
    refine lv_bipush (v := -10) hx hb dX0_lowestMatched_8 (by decide) ?_
    obtain ⟨r_6, ξ_7, h_5, hf⟩ := b2_some hf
    refine runW_i (va_runV (As := [.int (-10 : Int32)]) (rest := []) S (tX0_farthestMatched l D d z b fl K (-10 : Int32) ξ_3 r_6 ξ_7 h_5 _) (cwV 1 hts (lw_V q1189 q1191 qs33 q94 q1192) rfl rfl rfl (by decide +kernel) ⟨(Nat.le_of_ble_eq_true rfl), (Nat.le_of_ble_eq_true rfl)⟩) ⟨Pw.blind, (va_recv hK.1 hP (ci := 1) (q0 := 0) rfl rfl), fun U hU hW => Pw.at hK hP hD hZ hS hA hU hW⟩ rfl rfl hl.1 rfl (lv_room (Nat.le_of_ble_eq_true rfl)) dX0_lowestMatched_10 ⟨(Nat.le_of_ble_eq_true rfl), (Nat.le_of_ble_eq_true rfl)⟩) hP hD hS hA ?_
    clear hP hD hS
    intro H locs hP hD hS
    clear h_5
    refine lv_goto (tgt := 17) hx hb dX0_lowestMatched_13 (by decide) ?_
    refine W.widen (k := 0) (n := 0) (Nat.le_of_ble_eq_true rfl) (Nat.le_of_ble_eq_true rfl) ?_
    exact hret _ _ _ _ _ _ hf dX0_lowestMatched_17 hP hD hS
def fX0_worstInBand_L41 (K : Nat) : Nat → Int32 → Int32 → Int32 → Int32 → XS → Option (Int32 × XS)
  | 0, _, _, _, _, _ => none
  | n + 1, x41_1, x41_2, x41_3, x41_4, μ41 =>
    ga (ix x41_1 8) <|
    if (μ41.2.2.1 51 x41_1.toNatClampNeg) < x41_4 then
      some (x41_2, μ41)
    else
      b2 (fX0_swrOf K x41_4 μ41) fun r_13 ξ_14 =>
      if r_13 ≤ x41_3 then
        fX0_worstInBand_L41 K n x41_1 x41_2 x41_3 (x41_4 + (10 : Int32)) ξ_14
      else
        fX0_worstInBand_L41 K n x41_1 x41_4 r_13 (x41_4 + (10 : Int32)) ξ_14
def fX0_worstInBand (K : Nat) (p0 : Int32) (μ : XS) : Option (Int32 × XS) :=
  b2 (fX0_isReady K μ) fun r_2 ξ_3 =>
  if r_2 = true then
    b1 (fX0_isIn K p0 (0 : Int32) ((ξ_3.1 52) - (1 : Int32))) fun r_5 =>
    if r_5 = true then
      ga (ix p0 8) <|
      nm (ξ_3.2.2.1 50 p0.toNatClampNeg) fun v_9 =>
      fX0_worstInBand_L41 K K p0 (-1 : Int32) (0 : Int32) v_9 ξ_3
    else
      some ((-1 : Int32), ξ_3)
  else
    some ((-1 : Int32), ξ_3)
set_option maxHeartbeats 4000000 in
set_option maxRecDepth 100000 in
theorem tX0_worstInBand (l : Launch) (D : va_G) (d : Nat → ClassId) (z : ZT) (b : Nat → Nat) (fl : Option Nat) (K : Nat) (p0 : Int32) (μ : XS) (r : Int32) (μ' : XS) (hf : fX0_worstInBand K p0 μ = some (r, μ')) : CI l yX0_worstInBand (ws_ yX0_worstInBand cX0_worstInBand 6 (Option.some Jvm.ClassFile.FieldType.int)) (rmc 7 0 0 153) D d z [.ref (b 0), .int p0] (XP d z b fl μ) r (XP d z b fl μ') := by
  refine CI.of2 (own := RX0) rfl (by decide) (Nat.le_of_ble_eq_true rfl) rfl ?_
  intro p e s m args below meth c A Q ls S hin hK hP hD hZ hS hA hl hret0
  have hret : ∀ (x : Int32) (μx : XS) (H : Heap) (locs : List Loc) (pc : Nat) (ls' : Array Slot), some (x, μx) = some (r, μ') → decode cX0_worstInBand pc = .ok (.ireturn, 1) → va_P D CL (XP d z b fl μx) H → va_D A (XP d z b fl μx) → va_S A s.heap H locs → W p l e (rmc 7 0 0 153) s m args below meth c H locs 0 0 Q (F0 m pc ls' [.int x]) := by
    intro x μx H locs pc ls' h9 hdg hP hD hS
    obtain ⟨rfl, rfl⟩ := so_2 h9
    exact hret0 H locs pc ls' hdg hP hD hS
  have hx := S.1
  have hb := S.2.1
  have hts := S.2.2.2.2
  have hl : lv_has ls 6 [(0, .ref (b 0)), (1, .int p0)] := hl
  have L41 : ∀ (n : Nat) (x41_1 : Int32) (x41_2 : Int32) (x41_3 : Int32) (x41_4 : Int32) (μ41 : XS) (H : Heap) (locs : List Loc) (ls : Array Slot), fX0_worstInBand_L41 K n x41_1 x41_2 x41_3 x41_4 μ41 = some (r, μ') → va_P D CL (XP d z b fl μ41) H → va_D A (XP d z b fl μ41) → va_S A s.heap H locs → lv_has ls 6 [(0, .ref (b 0)), (1, .int x41_1), (2, .int x41_2), (3, .int x41_3), (4, .int x41_4)] → W p l e (rmc 7 0 0 153) s m args below meth c H locs 0 0 Q (F0 m 41 ls []) := by
    intro n
    induction n with
    | zero =>
      intro x41_1 x41_2 x41_3 x41_4 μ41 H locs ls hf hP hD hS hl
      rw [fX0_worstInBand_L41] at hf
      cases hf
    | succ n ih =>
      intro x41_1 x41_2 x41_3 x41_4 μ41 H locs ls hf hP hD hS hl
      rw [fX0_worstInBand_L41] at hf
      refine lv_iload hx hb dX0_worstInBand_41 (lv_at hl 4 rfl) ?_
      refine lv_aload_n hx hb dX0_worstInBand_43 rfl (lv_at hl 0 rfl) ?_
      refine g_get hx hb hts S.2.2.2.1 hK hP in_X0 0 rfl rfl 7 (by decide) q291 (fun _ h9 => h9) (v := .ref (b 7)) rfl dX0_worstInBand_44 ?_
      refine g_getN hx hb hts S.2.2.2.1 hK hP in_X6 7 rfl rfl 11 (by decide) q380 (fun _ h9 => h9) (v := .ref (b 12)) rfl dX0_worstInBand_47 ?_
      refine lv_iload_n hx hb dX0_worstInBand_50 rfl (lv_at hl 1 rfl) ?_
      obtain ⟨g_10, hf⟩ := ga_some hf
      refine g_iald hx hb hK hP 12 rfl (ix_in g_10) dX0_worstInBand_51 ?_
      refine lv_icmp_gt (tgt := 81) hx hb dX0_worstInBand_52 (by decide) (fun c_11 => ?_) (fun c_11 => ?_)
      · replace hf := it_t hf c_11
        clear c_11
        refine lv_iload_n hx hb dX0_worstInBand_81 rfl (lv_at hl 2 rfl) ?_
        refine W.widen (k := 0) (n := 0) (Nat.le_of_ble_eq_true rfl) (Nat.le_of_ble_eq_true rfl) ?_
        exact hret _ _ _ _ _ _ hf dX0_worstInBand_82 hP hD hS
      · replace hf := it_f hf c_11
        clear c_11
        refine lv_aload_n hx hb dX0_worstInBand_55 rfl (lv_at hl 0 rfl) ?_
        refine lv_iload hx hb dX0_worstInBand_56 (lv_at hl 4 rfl) ?_
        obtain ⟨r_13, ξ_14, h_12, hf⟩ := b2_some hf
        refine runW_i (va_runV (As := [.int x41_4]) (rest := []) S (tX0_swrOf l D d z b fl K x41_4 μ41 r_13 ξ_14 h_12 _) (cwV 1 hts (lw_V q1140 q1142 qs31 q94 q1143) rfl rfl rfl (by decide +kernel) ⟨(Nat.le_of_ble_eq_true rfl), (Nat.le_of_ble_eq_true rfl)⟩) ⟨Pw.blind, (va_recv hK.1 hP (ci := 1) (q0 := 0) rfl rfl), fun U hU hW => Pw.at hK hP hD hZ hS hA hU hW⟩ rfl rfl hl.1 rfl (lv_room (Nat.le_of_ble_eq_true rfl)) dX0_worstInBand_58 ⟨(Nat.le_of_ble_eq_true rfl), (Nat.le_of_ble_eq_true rfl)⟩) hP hD hS hA ?_
        clear hP hD hS
        intro H locs hP hD hS
        clear h_12
        refine lv_istore (lv' := [(5, .int r_13), (0, .ref (b 0)), (1, .int x41_1), (2, .int x41_2), (3, .int x41_3), (4, .int x41_4)]) hx hb dX0_worstInBand_61 hl (by decide) rfl (fun ls hl => ?_)
        refine lv_iload hx hb dX0_worstInBand_63 (lv_at hl 0 rfl) ?_
        refine lv_iload_n hx hb dX0_worstInBand_65 rfl (lv_at hl 4 rfl) ?_
        refine lv_icmp_le (tgt := 75) hx hb dX0_worstInBand_66 (by decide) (fun c_15 => ?_) (fun c_15 => ?_)
        · replace hf := it_t hf c_15
          clear c_15
          refine lv_iinc (v := x41_4 + (10 : Int32)) (lv' := [(4, .int (x41_4 + (10 : Int32))), (5, .int r_13), (0, .ref (b 0)), (1, .int x41_1), (2, .int x41_2), (3, .int x41_3)]) hx hb dX0_worstInBand_75 hl (k := 5) rfl rfl (by decide) rfl (fun ls hl => ?_)
          refine lv_goto (tgt := 41) hx hb dX0_worstInBand_78 (by decide) ?_
          exact ih x41_1 x41_2 x41_3 (x41_4 + (10 : Int32)) ξ_14 _ _ _ hf hP hD hS (lv_sub hl [2, 3, 4, 5, 0] rfl)
        · replace hf := it_f hf c_15
          clear c_15
          refine lv_iload hx hb dX0_worstInBand_69 (lv_at hl 0 rfl) ?_
          refine lv_istore_n (lv' := [(3, .int r_13), (5, .int r_13), (0, .ref (b 0)), (1, .int x41_1), (2, .int x41_2), (4, .int x41_4)]) hx hb dX0_worstInBand_71 rfl hl (by decide) rfl (fun ls hl => ?_)
          refine lv_iload hx hb dX0_worstInBand_72 (lv_at hl 5 rfl) ?_
          refine lv_istore_n (lv' := [(2, .int x41_4), (3, .int r_13), (5, .int r_13), (0, .ref (b 0)), (1, .int x41_1), (4, .int x41_4)]) hx hb dX0_worstInBand_74 rfl hl (by decide) rfl (fun ls hl => ?_)
          refine lv_iinc (v := x41_4 + (10 : Int32)) (lv' := [(4, .int (x41_4 + (10 : Int32))), (2, .int x41_4), (3, .int r_13), (5, .int r_13), (0, .ref (b 0)), (1, .int x41_1)]) hx hb dX0_worstInBand_75 hl (k := 5) rfl rfl (by decide) rfl (fun ls hl => ?_)
          refine lv_goto (tgt := 41) hx hb dX0_worstInBand_78 (by decide) ?_
          exact ih x41_1 x41_4 r_13 (x41_4 + (10 : Int32)) ξ_14 _ _ _ hf hP hD hS (lv_sub hl [4, 5, 1, 2, 0] rfl)
  unfold fX0_worstInBand at hf
  refine lv_aload_n hx hb dX0_worstInBand_0 rfl (lv_at hl 0 rfl) ?_
  obtain ⟨r_2, ξ_3, h_1, hf⟩ := b2_some hf
  refine runW_i (va_runV (As := []) (rest := []) S (tX0_isReady l D d z b fl K μ r_2 ξ_3 h_1 _) (cwV 0 hts (lw_V q857 q859 qs18 q94 q860) rfl rfl rfl (by decide +kernel) ⟨(Nat.le_of_ble_eq_true rfl), (Nat.le_of_ble_eq_true rfl)⟩) ⟨Pw.blind, (va_recv hK.1 hP (ci := 1) (q0 := 0) rfl rfl), fun U hU hW => Pw.at hK hP hD hZ hS hA hU hW⟩ rfl rfl hl.1 rfl (lv_room (Nat.le_of_ble_eq_true rfl)) dX0_worstInBand_1 ⟨(Nat.le_of_ble_eq_true rfl), (Nat.le_of_ble_eq_true rfl)⟩) hP hD hS hA ?_
  clear hP hD hS
  intro H locs hP hD hS
  clear h_1
  refine lv_if_eq (tgt := 24) hx hb dX0_worstInBand_4 (by decide) (fun c_4 => ?_) (fun c_4 => ?_)
  · replace hf := it_f hf (bi_e0 c_4)
    clear c_4
    refine lv_iconst (v := -1) hx hb dX0_worstInBand_24 (by decide) ?_
    refine W.widen (k := 0) (n := 0) (Nat.le_of_ble_eq_true rfl) (Nat.le_of_ble_eq_true rfl) ?_
    exact hret _ _ _ _ _ _ hf dX0_worstInBand_25 hP hD hS
  · replace hf := it_t hf (bi_n0 c_4)
    clear c_4
    refine lv_iload_n hx hb dX0_worstInBand_7 rfl (lv_at hl 1 rfl) ?_
    refine lv_iconst (v := 0) hx hb dX0_worstInBand_8 (by decide) ?_
    refine lv_aload_n hx hb dX0_worstInBand_9 rfl (lv_at hl 0 rfl) ?_
    refine g_get hx hb hts S.2.2.2.1 hK hP in_X0 0 rfl rfl 7 (by decide) q291 (fun _ h9 => h9) (v := .ref (b 7)) rfl dX0_worstInBand_10 ?_
    refine g_getN hx hb hts S.2.2.2.1 hK hP in_X6 7 rfl rfl 12 (by decide) q383 (fun _ h9 => h9) (v := .int (ξ_3.1 52)) rfl dX0_worstInBand_13 ?_
    refine lv_iconst (v := 1) hx hb dX0_worstInBand_16 (by decide) ?_
    refine lv_isub hx hb dX0_worstInBand_17 ?_
    obtain ⟨r_5, h_6, hf⟩ := b1_some hf
    refine si_call S (tX0_isIn l K p0 (0 : Int32) ((ξ_3.1 52) - (1 : Int32)) _ h_6) (va_cwS 3 hts (lw_S q331 q332 q94 q333) rfl rfl rfl (by decide +kernel) ⟨(Nat.le_of_ble_eq_true rfl), (Nat.le_of_ble_eq_true rfl)⟩) rfl hl.1 rfl (Nat.le_of_ble_eq_true rfl) ⟨(Nat.le_of_ble_eq_true rfl), (Nat.le_of_ble_eq_true rfl)⟩ dX0_worstInBand_18 ?_
    clear h_6
    refine lv_if_ne (tgt := 26) hx hb dX0_worstInBand_21 (by decide) (fun c_7 => ?_) (fun c_7 => ?_)
    · replace hf := it_t hf (bi_n0 c_7)
      clear c_7
      refine lv_iconst (v := -1) hx hb dX0_worstInBand_26 (by decide) ?_
      refine lv_istore_n (lv' := [(2, .int (-1 : Int32)), (0, .ref (b 0)), (1, .int p0)]) hx hb dX0_worstInBand_27 rfl hl (by decide) rfl (fun ls hl => ?_)
      refine lv_iconst (v := 0) hx hb dX0_worstInBand_28 (by decide) ?_
      refine lv_istore_n (lv' := [(3, .int (0 : Int32)), (2, .int (-1 : Int32)), (0, .ref (b 0)), (1, .int p0)]) hx hb dX0_worstInBand_29 rfl hl (by decide) rfl (fun ls hl => ?_)
      refine lv_aload_n hx hb dX0_worstInBand_30 rfl (lv_at hl 2 rfl) ?_
      refine g_get hx hb hts S.2.2.2.1 hK hP in_X0 0 rfl rfl 7 (by decide) q291 (fun _ h9 => h9) (v := .ref (b 7)) rfl dX0_worstInBand_31 ?_
      refine g_getN hx hb hts S.2.2.2.1 hK hP in_X6 7 rfl rfl 10 (by decide) q377 (fun _ h9 => h9) (v := .ref (b 11)) rfl dX0_worstInBand_34 ?_
      refine lv_iload_n hx hb dX0_worstInBand_37 rfl (lv_at hl 3 rfl) ?_
      obtain ⟨g_8, hf⟩ := ga_some hf
      refine g_iald hx hb hK hP 11 rfl (ix_in g_8) dX0_worstInBand_38 ?_
      refine lv_topi (fun v_9 e_ => ?_)
      replace hf := nm_some hf v_9 e_
      clear e_
      refine lv_istore (lv' := [(4, .int v_9), (3, .int (0 : Int32)), (2, .int (-1 : Int32)), (0, .ref (b 0)), (1, .int p0)]) hx hb dX0_worstInBand_39 hl (by decide) rfl (fun ls hl => ?_)
      exact L41 K p0 (-1 : Int32) (0 : Int32) v_9 ξ_3 _ _ _ hf hP hD hS (lv_sub hl [3, 4, 2, 1, 0] rfl)
    · replace hf := it_f hf (bi_e0 c_7)
      clear c_7
      refine lv_iconst (v := -1) hx hb dX0_worstInBand_24 (by decide) ?_
      refine W.widen (k := 0) (n := 0) (Nat.le_of_ble_eq_true rfl) (Nat.le_of_ble_eq_true rfl) ?_
      exact hret _ _ _ _ _ _ hf dX0_worstInBand_25 hP hD hS
def fX0_readingCount (K : Nat) (μ : XS) : Option (Int32 × XS) :=
  b2 (fX0_isReady K μ) fun r_2 ξ_3 =>
  if r_2 = true then
    some (ξ_3.1 66, ξ_3)
  else
    some ((-1 : Int32), ξ_3)
set_option maxHeartbeats 4000000 in
set_option maxRecDepth 100000 in
theorem tX0_readingCount (l : Launch) (D : va_G) (d : Nat → ClassId) (z : ZT) (b : Nat → Nat) (fl : Option Nat) (K : Nat) (μ : XS) (r : Int32) (μ' : XS) (hf : fX0_readingCount K μ = some (r, μ')) : CI l yX0_readingCount (ws_ yX0_readingCount cX0_readingCount 1 (Option.some Jvm.ClassFile.FieldType.int)) (rmc 1 0 0 20) D d z [.ref (b 0)] (XP d z b fl μ) r (XP d z b fl μ') := by
  refine CI.of2 (own := RX0) rfl (by decide) (Nat.le_of_ble_eq_true rfl) rfl ?_
  intro p e s m args below meth c A Q ls S hin hK hP hD hZ hS hA hl hret0
  have hret : ∀ (x : Int32) (μx : XS) (H : Heap) (locs : List Loc) (pc : Nat) (ls' : Array Slot), some (x, μx) = some (r, μ') → decode cX0_readingCount pc = .ok (.ireturn, 1) → va_P D CL (XP d z b fl μx) H → va_D A (XP d z b fl μx) → va_S A s.heap H locs → W p l e (rmc 1 0 0 20) s m args below meth c H locs 0 0 Q (F0 m pc ls' [.int x]) := by
    intro x μx H locs pc ls' h9 hdg hP hD hS
    obtain ⟨rfl, rfl⟩ := so_2 h9
    exact hret0 H locs pc ls' hdg hP hD hS
  have hx := S.1
  have hb := S.2.1
  have hts := S.2.2.2.2
  have hl : lv_has ls 1 [(0, .ref (b 0))] := hl
  unfold fX0_readingCount at hf
  refine lv_aload_n hx hb dX0_readingCount_0 rfl (lv_at hl 0 rfl) ?_
  obtain ⟨r_2, ξ_3, h_1, hf⟩ := b2_some hf
  refine runW_i (va_runV (As := []) (rest := []) S (tX0_isReady l D d z b fl K μ r_2 ξ_3 h_1 _) (cwV 0 hts (lw_V q857 q859 qs18 q94 q860) rfl rfl rfl (by decide +kernel) ⟨(Nat.le_of_ble_eq_true rfl), (Nat.le_of_ble_eq_true rfl)⟩) ⟨Pw.blind, (va_recv hK.1 hP (ci := 1) (q0 := 0) rfl rfl), fun U hU hW => Pw.at hK hP hD hZ hS hA hU hW⟩ rfl rfl hl.1 rfl (lv_room (Nat.le_of_ble_eq_true rfl)) dX0_readingCount_1 ⟨(Nat.le_of_ble_eq_true rfl), (Nat.le_of_ble_eq_true rfl)⟩) hP hD hS hA ?_
  clear hP hD hS
  intro H locs hP hD hS
  clear h_1
  refine lv_if_eq (tgt := 17) hx hb dX0_readingCount_4 (by decide) (fun c_4 => ?_) (fun c_4 => ?_)
  · replace hf := it_f hf (bi_e0 c_4)
    clear c_4
    refine lv_iconst (v := -1) hx hb dX0_readingCount_17 (by decide) ?_
    refine W.widen (k := 0) (n := 0) (Nat.le_of_ble_eq_true rfl) (Nat.le_of_ble_eq_true rfl) ?_
    exact hret _ _ _ _ _ _ hf dX0_readingCount_18 hP hD hS
  · replace hf := it_t hf (bi_n0 c_4)
    clear c_4
    refine lv_aload_n hx hb dX0_readingCount_7 rfl (lv_at hl 0 rfl) ?_
    refine g_get hx hb hts S.2.2.2.1 hK hP in_X0 0 rfl rfl 8 (by decide) q293 (fun _ h9 => h9) (v := .ref (b 13)) rfl dX0_readingCount_8 ?_
    refine g_getN hx hb hts S.2.2.2.1 hK hP in_X8 13 rfl rfl 6 (by decide) q821 (fun _ h9 => h9) (v := .int (ξ_3.1 66)) rfl dX0_readingCount_11 ?_
    refine lv_goto (tgt := 18) hx hb dX0_readingCount_14 (by decide) ?_
    refine W.widen (k := 0) (n := 0) (Nat.le_of_ble_eq_true rfl) (Nat.le_of_ble_eq_true rfl) ?_
    exact hret _ _ _ _ _ _ hf dX0_readingCount_18 hP hD hS
def fX0_reading (K : Nat) (p0 : Int32) (μ : XS) : Option (Int32 × XS) :=
  b2 (fX0_isReady K μ) fun r_2 ξ_3 =>
  if r_2 = true then
    b1 (fX0_isIn K p0 (0 : Int32) ((ξ_3.1 66) - (1 : Int32))) fun r_5 =>
    if r_5 = true then
      ga (ix (((ξ_3.1 66) - (1 : Int32)) - p0) 100) <|
      some (ξ_3.2.2.1 64 (((ξ_3.1 66) - (1 : Int32)) - p0).toNatClampNeg, ξ_3)
    else
      some ((-1 : Int32), ξ_3)
  else
    some ((-1 : Int32), ξ_3)
set_option maxHeartbeats 4000000 in
set_option maxRecDepth 100000 in
theorem tX0_reading (l : Launch) (D : va_G) (d : Nat → ClassId) (z : ZT) (b : Nat → Nat) (fl : Option Nat) (K : Nat) (p0 : Int32) (μ : XS) (r : Int32) (μ' : XS) (hf : fX0_reading K p0 μ = some (r, μ')) : CI l yX0_reading (ws_ yX0_reading cX0_reading 2 (Option.some Jvm.ClassFile.FieldType.int)) (rmc 1 0 0 22) D d z [.ref (b 0), .int p0] (XP d z b fl μ) r (XP d z b fl μ') := by
  refine CI.of2 (own := RX0) rfl (by decide) (Nat.le_of_ble_eq_true rfl) rfl ?_
  intro p e s m args below meth c A Q ls S hin hK hP hD hZ hS hA hl hret0
  have hret : ∀ (x : Int32) (μx : XS) (H : Heap) (locs : List Loc) (pc : Nat) (ls' : Array Slot), some (x, μx) = some (r, μ') → decode cX0_reading pc = .ok (.ireturn, 1) → va_P D CL (XP d z b fl μx) H → va_D A (XP d z b fl μx) → va_S A s.heap H locs → W p l e (rmc 1 0 0 22) s m args below meth c H locs 0 0 Q (F0 m pc ls' [.int x]) := by
    intro x μx H locs pc ls' h9 hdg hP hD hS
    obtain ⟨rfl, rfl⟩ := so_2 h9
    exact hret0 H locs pc ls' hdg hP hD hS
  have hx := S.1
  have hb := S.2.1
  have hts := S.2.2.2.2
  have hl : lv_has ls 2 [(0, .ref (b 0)), (1, .int p0)] := hl
  unfold fX0_reading at hf
  refine lv_aload_n hx hb dX0_reading_0 rfl (lv_at hl 0 rfl) ?_
  obtain ⟨r_2, ξ_3, h_1, hf⟩ := b2_some hf
  refine runW_i (va_runV (As := []) (rest := []) S (tX0_isReady l D d z b fl K μ r_2 ξ_3 h_1 _) (cwV 0 hts (lw_V q857 q859 qs18 q94 q860) rfl rfl rfl (by decide +kernel) ⟨(Nat.le_of_ble_eq_true rfl), (Nat.le_of_ble_eq_true rfl)⟩) ⟨Pw.blind, (va_recv hK.1 hP (ci := 1) (q0 := 0) rfl rfl), fun U hU hW => Pw.at hK hP hD hZ hS hA hU hW⟩ rfl rfl hl.1 rfl (lv_room (Nat.le_of_ble_eq_true rfl)) dX0_reading_1 ⟨(Nat.le_of_ble_eq_true rfl), (Nat.le_of_ble_eq_true rfl)⟩) hP hD hS hA ?_
  clear hP hD hS
  intro H locs hP hD hS
  clear h_1
  refine lv_if_eq (tgt := 46) hx hb dX0_reading_4 (by decide) (fun c_4 => ?_) (fun c_4 => ?_)
  · replace hf := it_f hf (bi_e0 c_4)
    clear c_4
    refine lv_iconst (v := -1) hx hb dX0_reading_46 (by decide) ?_
    refine W.widen (k := 0) (n := 0) (Nat.le_of_ble_eq_true rfl) (Nat.le_of_ble_eq_true rfl) ?_
    exact hret _ _ _ _ _ _ hf dX0_reading_47 hP hD hS
  · replace hf := it_t hf (bi_n0 c_4)
    clear c_4
    refine lv_iload_n hx hb dX0_reading_7 rfl (lv_at hl 1 rfl) ?_
    refine lv_iconst (v := 0) hx hb dX0_reading_8 (by decide) ?_
    refine lv_aload_n hx hb dX0_reading_9 rfl (lv_at hl 0 rfl) ?_
    refine g_get hx hb hts S.2.2.2.1 hK hP in_X0 0 rfl rfl 8 (by decide) q293 (fun _ h9 => h9) (v := .ref (b 13)) rfl dX0_reading_10 ?_
    refine g_getN hx hb hts S.2.2.2.1 hK hP in_X8 13 rfl rfl 6 (by decide) q821 (fun _ h9 => h9) (v := .int (ξ_3.1 66)) rfl dX0_reading_13 ?_
    refine lv_iconst (v := 1) hx hb dX0_reading_16 (by decide) ?_
    refine lv_isub hx hb dX0_reading_17 ?_
    obtain ⟨r_5, h_6, hf⟩ := b1_some hf
    refine si_call S (tX0_isIn l K p0 (0 : Int32) ((ξ_3.1 66) - (1 : Int32)) _ h_6) (va_cwS 3 hts (lw_S q331 q332 q94 q333) rfl rfl rfl (by decide +kernel) ⟨(Nat.le_of_ble_eq_true rfl), (Nat.le_of_ble_eq_true rfl)⟩) rfl hl.1 rfl (Nat.le_of_ble_eq_true rfl) ⟨(Nat.le_of_ble_eq_true rfl), (Nat.le_of_ble_eq_true rfl)⟩ dX0_reading_18 ?_
    clear h_6
    refine lv_if_eq (tgt := 46) hx hb dX0_reading_21 (by decide) (fun c_7 => ?_) (fun c_7 => ?_)
    · replace hf := it_f hf (bi_e0 c_7)
      clear c_7
      refine lv_iconst (v := -1) hx hb dX0_reading_46 (by decide) ?_
      refine W.widen (k := 0) (n := 0) (Nat.le_of_ble_eq_true rfl) (Nat.le_of_ble_eq_true rfl) ?_
      exact hret _ _ _ _ _ _ hf dX0_reading_47 hP hD hS
    · replace hf := it_t hf (bi_n0 c_7)
      clear c_7
      refine lv_aload_n hx hb dX0_reading_24 rfl (lv_at hl 0 rfl) ?_
      refine g_get hx hb hts S.2.2.2.1 hK hP in_X0 0 rfl rfl 8 (by decide) q293 (fun _ h9 => h9) (v := .ref (b 13)) rfl dX0_reading_25 ?_
      refine g_getN hx hb hts S.2.2.2.1 hK hP in_X8 13 rfl rfl 4 (by decide) q817 (fun _ h9 => h9) (v := .ref (b 14)) rfl dX0_reading_28 ?_
      refine lv_aload_n hx hb dX0_reading_31 rfl (lv_at hl 0 rfl) ?_
      refine g_get hx hb hts S.2.2.2.1 hK hP in_X0 0 rfl rfl 8 (by decide) q293 (fun _ h9 => h9) (v := .ref (b 13)) rfl dX0_reading_32 ?_
      refine g_getN hx hb hts S.2.2.2.1 hK hP in_X8 13 rfl rfl 6 (by decide) q821 (fun _ h9 => h9) (v := .int (ξ_3.1 66)) rfl dX0_reading_35 ?_
      refine lv_iconst (v := 1) hx hb dX0_reading_38 (by decide) ?_
      refine lv_isub hx hb dX0_reading_39 ?_
      refine lv_iload_n hx hb dX0_reading_40 rfl (lv_at hl 1 rfl) ?_
      refine lv_isub hx hb dX0_reading_41 ?_
      obtain ⟨g_8, hf⟩ := ga_some hf
      refine g_iald hx hb hK hP 14 rfl (ix_in g_8) dX0_reading_42 ?_
      refine lv_goto (tgt := 47) hx hb dX0_reading_43 (by decide) ?_
      refine W.widen (k := 0) (n := 0) (Nat.le_of_ble_eq_true rfl) (Nat.le_of_ble_eq_true rfl) ?_
      exact hret _ _ _ _ _ _ hf dX0_reading_47 hP hD hS
def fX0_heat (K : Nat) (μ : XS) : Option (Int32 × XS) :=
  b2 (fX0_isReady K μ) fun r_2 ξ_3 =>
  if r_2 = true then
    some (ξ_3.1 62, ξ_3)
  else
    some ((-1 : Int32), ξ_3)
set_option maxHeartbeats 4000000 in
set_option maxRecDepth 100000 in
theorem tX0_heat (l : Launch) (D : va_G) (d : Nat → ClassId) (z : ZT) (b : Nat → Nat) (fl : Option Nat) (K : Nat) (μ : XS) (r : Int32) (μ' : XS) (hf : fX0_heat K μ = some (r, μ')) : CI l yX0_heat (ws_ yX0_heat cX0_heat 1 (Option.some Jvm.ClassFile.FieldType.int)) (rmc 1 0 0 20) D d z [.ref (b 0)] (XP d z b fl μ) r (XP d z b fl μ') := by
  refine CI.of2 (own := RX0) rfl (by decide) (Nat.le_of_ble_eq_true rfl) rfl ?_
  intro p e s m args below meth c A Q ls S hin hK hP hD hZ hS hA hl hret0
  have hret : ∀ (x : Int32) (μx : XS) (H : Heap) (locs : List Loc) (pc : Nat) (ls' : Array Slot), some (x, μx) = some (r, μ') → decode cX0_heat pc = .ok (.ireturn, 1) → va_P D CL (XP d z b fl μx) H → va_D A (XP d z b fl μx) → va_S A s.heap H locs → W p l e (rmc 1 0 0 20) s m args below meth c H locs 0 0 Q (F0 m pc ls' [.int x]) := by
    intro x μx H locs pc ls' h9 hdg hP hD hS
    obtain ⟨rfl, rfl⟩ := so_2 h9
    exact hret0 H locs pc ls' hdg hP hD hS
  have hx := S.1
  have hb := S.2.1
  have hts := S.2.2.2.2
  have hl : lv_has ls 1 [(0, .ref (b 0))] := hl
  unfold fX0_heat at hf
  refine lv_aload_n hx hb dX0_heat_0 rfl (lv_at hl 0 rfl) ?_
  obtain ⟨r_2, ξ_3, h_1, hf⟩ := b2_some hf
  refine runW_i (va_runV (As := []) (rest := []) S (tX0_isReady l D d z b fl K μ r_2 ξ_3 h_1 _) (cwV 0 hts (lw_V q857 q859 qs18 q94 q860) rfl rfl rfl (by decide +kernel) ⟨(Nat.le_of_ble_eq_true rfl), (Nat.le_of_ble_eq_true rfl)⟩) ⟨Pw.blind, (va_recv hK.1 hP (ci := 1) (q0 := 0) rfl rfl), fun U hU hW => Pw.at hK hP hD hZ hS hA hU hW⟩ rfl rfl hl.1 rfl (lv_room (Nat.le_of_ble_eq_true rfl)) dX0_heat_1 ⟨(Nat.le_of_ble_eq_true rfl), (Nat.le_of_ble_eq_true rfl)⟩) hP hD hS hA ?_
  clear hP hD hS
  intro H locs hP hD hS
  clear h_1
  refine lv_if_eq (tgt := 17) hx hb dX0_heat_4 (by decide) (fun c_4 => ?_) (fun c_4 => ?_)
  · replace hf := it_f hf (bi_e0 c_4)
    clear c_4
    refine lv_iconst (v := -1) hx hb dX0_heat_17 (by decide) ?_
    refine W.widen (k := 0) (n := 0) (Nat.le_of_ble_eq_true rfl) (Nat.le_of_ble_eq_true rfl) ?_
    exact hret _ _ _ _ _ _ hf dX0_heat_18 hP hD hS
  · replace hf := it_t hf (bi_n0 c_4)
    clear c_4
    refine lv_aload_n hx hb dX0_heat_7 rfl (lv_at hl 0 rfl) ?_
    refine g_get hx hb hts S.2.2.2.1 hK hP in_X0 0 rfl rfl 8 (by decide) q293 (fun _ h9 => h9) (v := .ref (b 13)) rfl dX0_heat_8 ?_
    refine g_getN hx hb hts S.2.2.2.1 hK hP in_X8 13 rfl rfl 2 (by decide) q814 (fun _ h9 => h9) (v := .int (ξ_3.1 62)) rfl dX0_heat_11 ?_
    refine lv_goto (tgt := 18) hx hb dX0_heat_14 (by decide) ?_
    refine W.widen (k := 0) (n := 0) (Nat.le_of_ble_eq_true rfl) (Nat.le_of_ble_eq_true rfl) ?_
    exact hret _ _ _ _ _ _ hf dX0_heat_18 hP hD hS
def fX0_arcsNoticed_L81 (K : Nat) (k24 : Int32 → Int32 → Int32 → XS → Option (Int32 × XS)) (t81_0 : Int32) (t81_1 : Int32) (x81_1 : Int32) (x81_3 : Int32) (μ81 : XS) : Option (Int32 × XS) :=
  nm (t81_1 + t81_0) fun v_11 =>
  k24 x81_1 v_11 (x81_3 + (1 : Int32)) μ81
def fX0_arcsNoticed_L80 (K : Nat) (k24 : Int32 → Int32 → Int32 → XS → Option (Int32 × XS)) (t80_0 : Int32) (x80_1 : Int32) (x80_3 : Int32) (μ80 : XS) : Option (Int32 × XS) :=
  fX0_arcsNoticed_L81 K k24 (0 : Int32) t80_0 x80_1 x80_3 μ80
def fX0_arcsNoticed_L24 (K : Nat) : Nat → Int32 → Int32 → Int32 → XS → Option (Int32 × XS)
  | 0, _, _, _, _ => none
  | n + 1, x24_1, x24_2, x24_3, μ24 =>
    if (μ24.1 66) ≤ x24_3 then
      some (x24_2, μ24)
    else
      ga (ix x24_3 100) <|
      if (μ24.2.2.1 65 x24_3.toNatClampNeg) = 0 then
        ga (ix x24_3 100) <|
        ga (ix (x24_3 - (1 : Int32)) 100) <|
        if ((10 : Int32) * (μ24.2.2.1 64 x24_3.toNatClampNeg)) < (x24_1 * (μ24.2.2.1 64 (x24_3 - (1 : Int32)).toNatClampNeg)) then
          fX0_arcsNoticed_L80 K (fX0_arcsNoticed_L24 K n) x24_2 x24_1 x24_3 μ24
        else
          fX0_arcsNoticed_L81 K (fX0_arcsNoticed_L24 K n) (1 : Int32) x24_2 x24_1 x24_3 μ24
      else
        fX0_arcsNoticed_L80 K (fX0_arcsNoticed_L24 K n) x24_2 x24_1 x24_3 μ24
def fX0_arcsNoticed (K : Nat) (p0 : Int32) (μ : XS) : Option (Int32 × XS) :=
  b2 (fX0_isReady K μ) fun r_2 ξ_3 =>
  if r_2 = true then
    b1 (fX0_isIn K p0 (11 : Int32) (100 : Int32)) fun r_5 =>
    if r_5 = true then
      fX0_arcsNoticed_L24 K K p0 (0 : Int32) (1 : Int32) ξ_3
    else
      some ((-1 : Int32), ξ_3)
  else
    some ((-1 : Int32), ξ_3)
set_option maxHeartbeats 4000000 in
set_option maxRecDepth 100000 in
theorem tX0_arcsNoticed (l : Launch) (D : va_G) (d : Nat → ClassId) (z : ZT) (b : Nat → Nat) (fl : Option Nat) (K : Nat) (p0 : Int32) (μ : XS) (r : Int32) (μ' : XS) (hf : fX0_arcsNoticed K p0 μ = some (r, μ')) : CI l yX0_arcsNoticed (ws_ yX0_arcsNoticed cX0_arcsNoticed 4 (Option.some Jvm.ClassFile.FieldType.int)) (rmc 1 0 0 22) D d z [.ref (b 0), .int p0] (XP d z b fl μ) r (XP d z b fl μ') := by
  refine CI.of2 (own := RX0) rfl (by decide) (Nat.le_of_ble_eq_true rfl) rfl ?_
  intro p e s m args below meth c A Q ls S hin hK hP hD hZ hS hA hl hret0
  have hret : ∀ (x : Int32) (μx : XS) (H : Heap) (locs : List Loc) (pc : Nat) (ls' : Array Slot), some (x, μx) = some (r, μ') → decode cX0_arcsNoticed pc = .ok (.ireturn, 1) → va_P D CL (XP d z b fl μx) H → va_D A (XP d z b fl μx) → va_S A s.heap H locs → W p l e (rmc 1 0 0 22) s m args below meth c H locs 0 0 Q (F0 m pc ls' [.int x]) := by
    intro x μx H locs pc ls' h9 hdg hP hD hS
    obtain ⟨rfl, rfl⟩ := so_2 h9
    exact hret0 H locs pc ls' hdg hP hD hS
  have hx := S.1
  have hb := S.2.1
  have hts := S.2.2.2.2
  have hl : lv_has ls 4 [(0, .ref (b 0)), (1, .int p0)] := hl
  have L24 : ∀ (n : Nat) (x24_1 : Int32) (x24_2 : Int32) (x24_3 : Int32) (μ24 : XS) (H : Heap) (locs : List Loc) (ls : Array Slot), fX0_arcsNoticed_L24 K n x24_1 x24_2 x24_3 μ24 = some (r, μ') → va_P D CL (XP d z b fl μ24) H → va_D A (XP d z b fl μ24) → va_S A s.heap H locs → lv_has ls 4 [(0, .ref (b 0)), (1, .int x24_1), (2, .int x24_2), (3, .int x24_3)] → W p l e (rmc 1 0 0 22) s m args below meth c H locs 0 0 Q (F0 m 24 ls []) := by
    intro n
    induction n with
    | zero =>
      intro x24_1 x24_2 x24_3 μ24 H locs ls hf hP hD hS hl
      rw [fX0_arcsNoticed_L24] at hf
      cases hf
    | succ n ih =>
      have ih24 := ih
      have L81 : ∀ (t81_0 : Int32) (t81_1 : Int32) (x81_1 : Int32) (x81_3 : Int32) (μ81 : XS) (H : Heap) (locs : List Loc) (ls : Array Slot), fX0_arcsNoticed_L81 K (fX0_arcsNoticed_L24 K n) t81_0 t81_1 x81_1 x81_3 μ81 = some (r, μ') → va_P D CL (XP d z b fl μ81) H → va_D A (XP d z b fl μ81) → va_S A s.heap H locs → lv_has ls 4 [(0, .ref (b 0)), (1, .int x81_1), (3, .int x81_3)] → W p l e (rmc 1 0 0 22) s m args below meth c H locs 0 0 Q (F0 m 81 ls [.int t81_0, .int t81_1]) := by
        intro t81_0 t81_1 x81_1 x81_3 μ81 H locs ls hf hP hD hS hl
        unfold fX0_arcsNoticed_L81 at hf
        refine lv_iadd hx hb dX0_arcsNoticed_81 ?_
        refine lv_topi (fun v_11 e_ => ?_)
        replace hf := nm_some hf v_11 e_
        clear e_
        refine lv_istore_n (lv' := [(2, .int v_11), (0, .ref (b 0)), (1, .int x81_1), (3, .int x81_3)]) hx hb dX0_arcsNoticed_82 rfl hl (by decide) rfl (fun ls hl => ?_)
        refine lv_iinc (v := x81_3 + (1 : Int32)) (lv' := [(3, .int (x81_3 + (1 : Int32))), (2, .int v_11), (0, .ref (b 0)), (1, .int x81_1)]) hx hb dX0_arcsNoticed_83 hl (k := 3) rfl rfl (by decide) rfl (fun ls hl => ?_)
        refine lv_goto (tgt := 24) hx hb dX0_arcsNoticed_86 (by decide) ?_
        exact ih24 x81_1 v_11 (x81_3 + (1 : Int32)) μ81 _ _ _ hf hP hD hS (lv_sub hl [2, 3, 1, 0] rfl)
      have L80 : ∀ (t80_0 : Int32) (x80_1 : Int32) (x80_3 : Int32) (μ80 : XS) (H : Heap) (locs : List Loc) (ls : Array Slot), fX0_arcsNoticed_L80 K (fX0_arcsNoticed_L24 K n) t80_0 x80_1 x80_3 μ80 = some (r, μ') → va_P D CL (XP d z b fl μ80) H → va_D A (XP d z b fl μ80) → va_S A s.heap H locs → lv_has ls 4 [(0, .ref (b 0)), (1, .int x80_1), (3, .int x80_3)] → W p l e (rmc 1 0 0 22) s m args below meth c H locs 0 0 Q (F0 m 80 ls [.int t80_0]) := by
        intro t80_0 x80_1 x80_3 μ80 H locs ls hf hP hD hS hl
        unfold fX0_arcsNoticed_L80 at hf
        refine lv_iconst (v := 0) hx hb dX0_arcsNoticed_80 (by decide) ?_
        exact L81 (0 : Int32) t80_0 x80_1 x80_3 μ80 _ _ _ hf hP hD hS (lv_sub hl [0, 1, 2] rfl)
      intro x24_1 x24_2 x24_3 μ24 H locs ls hf hP hD hS hl
      rw [fX0_arcsNoticed_L24] at hf
      refine lv_iload_n hx hb dX0_arcsNoticed_24 rfl (lv_at hl 3 rfl) ?_
      refine lv_aload_n hx hb dX0_arcsNoticed_25 rfl (lv_at hl 0 rfl) ?_
      refine g_get hx hb hts S.2.2.2.1 hK hP in_X0 0 rfl rfl 8 (by decide) q293 (fun _ h9 => h9) (v := .ref (b 13)) rfl dX0_arcsNoticed_26 ?_
      refine g_getN hx hb hts S.2.2.2.1 hK hP in_X8 13 rfl rfl 6 (by decide) q821 (fun _ h9 => h9) (v := .int (μ24.1 66)) rfl dX0_arcsNoticed_29 ?_
      refine lv_icmp_ge (tgt := 89) hx hb dX0_arcsNoticed_32 (by decide) (fun c_8 => ?_) (fun c_8 => ?_)
      · replace hf := it_t hf c_8
        clear c_8
        refine lv_iload_n hx hb dX0_arcsNoticed_89 rfl (lv_at hl 2 rfl) ?_
        refine W.widen (k := 0) (n := 0) (Nat.le_of_ble_eq_true rfl) (Nat.le_of_ble_eq_true rfl) ?_
        exact hret _ _ _ _ _ _ hf dX0_arcsNoticed_90 hP hD hS
      · replace hf := it_f hf c_8
        clear c_8
        refine lv_iload_n hx hb dX0_arcsNoticed_35 rfl (lv_at hl 2 rfl) ?_
        refine lv_aload_n hx hb dX0_arcsNoticed_36 rfl (lv_at hl 0 rfl) ?_
        refine g_get hx hb hts S.2.2.2.1 hK hP in_X0 0 rfl rfl 8 (by decide) q293 (fun _ h9 => h9) (v := .ref (b 13)) rfl dX0_arcsNoticed_37 ?_
        refine g_getN hx hb hts S.2.2.2.1 hK hP in_X8 13 rfl rfl 5 (by decide) q819 (fun _ h9 => h9) (v := .ref (b 15)) rfl dX0_arcsNoticed_40 ?_
        refine lv_iload_n hx hb dX0_arcsNoticed_43 rfl (lv_at hl 3 rfl) ?_
        obtain ⟨g_9, hf⟩ := ga_some hf
        refine g_zald hx hb hK hP 15 rfl (ix_in g_9) dX0_arcsNoticed_44 ?_
        refine lv_if_ne (tgt := 80) hx hb dX0_arcsNoticed_45 (by decide) (fun c_10 => ?_) (fun c_10 => ?_)
        · replace hf := it_f hf c_10
          clear c_10
          exact L80 x24_2 x24_1 x24_3 μ24 _ _ _ hf hP hD hS (lv_sub hl [0, 1, 3] rfl)
        · replace hf := it_t hf c_10
          clear c_10
          refine lv_bipush (v := 10) hx hb dX0_arcsNoticed_48 (by decide) ?_
          refine lv_aload_n hx hb dX0_arcsNoticed_50 rfl (lv_at hl 0 rfl) ?_
          refine g_get hx hb hts S.2.2.2.1 hK hP in_X0 0 rfl rfl 8 (by decide) q293 (fun _ h9 => h9) (v := .ref (b 13)) rfl dX0_arcsNoticed_51 ?_
          refine g_getN hx hb hts S.2.2.2.1 hK hP in_X8 13 rfl rfl 4 (by decide) q817 (fun _ h9 => h9) (v := .ref (b 14)) rfl dX0_arcsNoticed_54 ?_
          refine lv_iload_n hx hb dX0_arcsNoticed_57 rfl (lv_at hl 3 rfl) ?_
          obtain ⟨g_12, hf⟩ := ga_some hf
          refine g_iald hx hb hK hP 14 rfl (ix_in g_12) dX0_arcsNoticed_58 ?_
          refine lv_imul hx hb dX0_arcsNoticed_59 ?_
          refine lv_iload_n hx hb dX0_arcsNoticed_60 rfl (lv_at hl 1 rfl) ?_
          refine lv_aload_n hx hb dX0_arcsNoticed_61 rfl (lv_at hl 0 rfl) ?_
          refine g_get hx hb hts S.2.2.2.1 hK hP in_X0 0 rfl rfl 8 (by decide) q293 (fun _ h9 => h9) (v := .ref (b 13)) rfl dX0_arcsNoticed_62 ?_
          refine g_getN hx hb hts S.2.2.2.1 hK hP in_X8 13 rfl rfl 4 (by decide) q817 (fun _ h9 => h9) (v := .ref (b 14)) rfl dX0_arcsNoticed_65 ?_
          refine lv_iload_n hx hb dX0_arcsNoticed_68 rfl (lv_at hl 3 rfl) ?_
          refine lv_iconst (v := 1) hx hb dX0_arcsNoticed_69 (by decide) ?_
          refine lv_isub hx hb dX0_arcsNoticed_70 ?_
          obtain ⟨g_13, hf⟩ := ga_some hf
          refine g_iald hx hb hK hP 14 rfl (ix_in g_13) dX0_arcsNoticed_71 ?_
          refine lv_imul hx hb dX0_arcsNoticed_72 ?_
          refine lv_icmp_lt (tgt := 80) hx hb dX0_arcsNoticed_73 (by decide) (fun c_14 => ?_) (fun c_14 => ?_)
          · replace hf := it_t hf c_14
            clear c_14
            exact L80 x24_2 x24_1 x24_3 μ24 _ _ _ hf hP hD hS (lv_sub hl [0, 1, 3] rfl)
          · replace hf := it_f hf c_14
            clear c_14
            refine lv_iconst (v := 1) hx hb dX0_arcsNoticed_76 (by decide) ?_
            refine lv_goto (tgt := 81) hx hb dX0_arcsNoticed_77 (by decide) ?_
            exact L81 (1 : Int32) x24_2 x24_1 x24_3 μ24 _ _ _ hf hP hD hS (lv_sub hl [0, 1, 3] rfl)
  unfold fX0_arcsNoticed at hf
  refine lv_aload_n hx hb dX0_arcsNoticed_0 rfl (lv_at hl 0 rfl) ?_
  obtain ⟨r_2, ξ_3, h_1, hf⟩ := b2_some hf
  refine runW_i (va_runV (As := []) (rest := []) S (tX0_isReady l D d z b fl K μ r_2 ξ_3 h_1 _) (cwV 0 hts (lw_V q857 q859 qs18 q94 q860) rfl rfl rfl (by decide +kernel) ⟨(Nat.le_of_ble_eq_true rfl), (Nat.le_of_ble_eq_true rfl)⟩) ⟨Pw.blind, (va_recv hK.1 hP (ci := 1) (q0 := 0) rfl rfl), fun U hU hW => Pw.at hK hP hD hZ hS hA hU hW⟩ rfl rfl hl.1 rfl (lv_room (Nat.le_of_ble_eq_true rfl)) dX0_arcsNoticed_1 ⟨(Nat.le_of_ble_eq_true rfl), (Nat.le_of_ble_eq_true rfl)⟩) hP hD hS hA ?_
  clear hP hD hS
  intro H locs hP hD hS
  clear h_1
  refine lv_if_eq (tgt := 18) hx hb dX0_arcsNoticed_4 (by decide) (fun c_4 => ?_) (fun c_4 => ?_)
  · replace hf := it_f hf (bi_e0 c_4)
    clear c_4
    refine lv_iconst (v := -1) hx hb dX0_arcsNoticed_18 (by decide) ?_
    refine W.widen (k := 0) (n := 0) (Nat.le_of_ble_eq_true rfl) (Nat.le_of_ble_eq_true rfl) ?_
    exact hret _ _ _ _ _ _ hf dX0_arcsNoticed_19 hP hD hS
  · replace hf := it_t hf (bi_n0 c_4)
    clear c_4
    refine lv_iload_n hx hb dX0_arcsNoticed_7 rfl (lv_at hl 1 rfl) ?_
    refine lv_bipush (v := 11) hx hb dX0_arcsNoticed_8 (by decide) ?_
    refine lv_bipush (v := 100) hx hb dX0_arcsNoticed_10 (by decide) ?_
    obtain ⟨r_5, h_6, hf⟩ := b1_some hf
    refine si_call S (tX0_isIn l K p0 (11 : Int32) (100 : Int32) _ h_6) (va_cwS 3 hts (lw_S q331 q332 q94 q333) rfl rfl rfl (by decide +kernel) ⟨(Nat.le_of_ble_eq_true rfl), (Nat.le_of_ble_eq_true rfl)⟩) rfl hl.1 rfl (Nat.le_of_ble_eq_true rfl) ⟨(Nat.le_of_ble_eq_true rfl), (Nat.le_of_ble_eq_true rfl)⟩ dX0_arcsNoticed_12 ?_
    clear h_6
    refine lv_if_ne (tgt := 20) hx hb dX0_arcsNoticed_15 (by decide) (fun c_7 => ?_) (fun c_7 => ?_)
    · replace hf := it_t hf (bi_n0 c_7)
      clear c_7
      refine lv_iconst (v := 0) hx hb dX0_arcsNoticed_20 (by decide) ?_
      refine lv_istore_n (lv' := [(2, .int (0 : Int32)), (0, .ref (b 0)), (1, .int p0)]) hx hb dX0_arcsNoticed_21 rfl hl (by decide) rfl (fun ls hl => ?_)
      refine lv_iconst (v := 1) hx hb dX0_arcsNoticed_22 (by decide) ?_
      refine lv_istore_n (lv' := [(3, .int (1 : Int32)), (2, .int (0 : Int32)), (0, .ref (b 0)), (1, .int p0)]) hx hb dX0_arcsNoticed_23 rfl hl (by decide) rfl (fun ls hl => ?_)
      exact L24 K p0 (0 : Int32) (1 : Int32) ξ_3 _ _ _ hf hP hD hS (lv_sub hl [2, 3, 1, 0] rfl)
    · replace hf := it_f hf (bi_e0 c_7)
      clear c_7
      refine lv_iconst (v := -1) hx hb dX0_arcsNoticed_18 (by decide) ?_
      refine W.widen (k := 0) (n := 0) (Nat.le_of_ble_eq_true rfl) (Nat.le_of_ble_eq_true rfl) ?_
      exact hret _ _ _ _ _ _ hf dX0_arcsNoticed_19 hP hD hS
def fX0_evaluations (K : Nat) (μ : XS) : Option (Int32 × XS) :=
  b2 (fX0_isReady K μ) fun r_2 ξ_3 =>
  if r_2 = true then
    some (ξ_3.1 10, ξ_3)
  else
    some ((-1 : Int32), ξ_3)
set_option maxHeartbeats 4000000 in
set_option maxRecDepth 100000 in
theorem tX0_evaluations (l : Launch) (D : va_G) (d : Nat → ClassId) (z : ZT) (b : Nat → Nat) (fl : Option Nat) (K : Nat) (μ : XS) (r : Int32) (μ' : XS) (hf : fX0_evaluations K μ = some (r, μ')) : CI l yX0_evaluations (ws_ yX0_evaluations cX0_evaluations 1 (Option.some Jvm.ClassFile.FieldType.int)) (rmc 1 0 0 20) D d z [.ref (b 0)] (XP d z b fl μ) r (XP d z b fl μ') := by
  refine CI.of2 (own := RX0) rfl (by decide) (Nat.le_of_ble_eq_true rfl) rfl ?_
  intro p e s m args below meth c A Q ls S hin hK hP hD hZ hS hA hl hret0
  have hret : ∀ (x : Int32) (μx : XS) (H : Heap) (locs : List Loc) (pc : Nat) (ls' : Array Slot), some (x, μx) = some (r, μ') → decode cX0_evaluations pc = .ok (.ireturn, 1) → va_P D CL (XP d z b fl μx) H → va_D A (XP d z b fl μx) → va_S A s.heap H locs → W p l e (rmc 1 0 0 20) s m args below meth c H locs 0 0 Q (F0 m pc ls' [.int x]) := by
    intro x μx H locs pc ls' h9 hdg hP hD hS
    obtain ⟨rfl, rfl⟩ := so_2 h9
    exact hret0 H locs pc ls' hdg hP hD hS
  have hx := S.1
  have hb := S.2.1
  have hts := S.2.2.2.2
  have hl : lv_has ls 1 [(0, .ref (b 0))] := hl
  unfold fX0_evaluations at hf
  refine lv_aload_n hx hb dX0_evaluations_0 rfl (lv_at hl 0 rfl) ?_
  obtain ⟨r_2, ξ_3, h_1, hf⟩ := b2_some hf
  refine runW_i (va_runV (As := []) (rest := []) S (tX0_isReady l D d z b fl K μ r_2 ξ_3 h_1 _) (cwV 0 hts (lw_V q857 q859 qs18 q94 q860) rfl rfl rfl (by decide +kernel) ⟨(Nat.le_of_ble_eq_true rfl), (Nat.le_of_ble_eq_true rfl)⟩) ⟨Pw.blind, (va_recv hK.1 hP (ci := 1) (q0 := 0) rfl rfl), fun U hU hW => Pw.at hK hP hD hZ hS hA hU hW⟩ rfl rfl hl.1 rfl (lv_room (Nat.le_of_ble_eq_true rfl)) dX0_evaluations_1 ⟨(Nat.le_of_ble_eq_true rfl), (Nat.le_of_ble_eq_true rfl)⟩) hP hD hS hA ?_
  clear hP hD hS
  intro H locs hP hD hS
  clear h_1
  refine lv_if_eq (tgt := 14) hx hb dX0_evaluations_4 (by decide) (fun c_4 => ?_) (fun c_4 => ?_)
  · replace hf := it_f hf (bi_e0 c_4)
    clear c_4
    refine lv_iconst (v := -1) hx hb dX0_evaluations_14 (by decide) ?_
    refine W.widen (k := 0) (n := 0) (Nat.le_of_ble_eq_true rfl) (Nat.le_of_ble_eq_true rfl) ?_
    exact hret _ _ _ _ _ _ hf dX0_evaluations_15 hP hD hS
  · replace hf := it_t hf (bi_n0 c_4)
    clear c_4
    refine lv_aload_n hx hb dX0_evaluations_7 rfl (lv_at hl 0 rfl) ?_
    refine g_get hx hb hts S.2.2.2.1 hK hP in_X0 0 rfl rfl 10 (by decide) q295 (fun _ h9 => h9) (v := .int (ξ_3.1 10)) rfl dX0_evaluations_8 ?_
    refine lv_goto (tgt := 15) hx hb dX0_evaluations_11 (by decide) ?_
    refine W.widen (k := 0) (n := 0) (Nat.le_of_ble_eq_true rfl) (Nat.le_of_ble_eq_true rfl) ?_
    exact hret _ _ _ _ _ _ hf dX0_evaluations_15 hP hD hS
def fX0_bestSettings_L17 (K : Nat) : Nat → Int32 → Int32 → Int32 → XS → Option (Int32 × XS)
  | 0, _, _, _, _ => none
  | n + 1, x17_1, x17_2, x17_3, μ17 =>
    if (8192 : Int32) ≤ x17_3 then
      some (x17_1, μ17)
    else
      b2 (fX0_swrBy K x17_3 μ17) fun r_7 ξ_8 =>
      if x17_2 ≤ r_7 then
        fX0_bestSettings_L17 K n x17_1 x17_2 (x17_3 + (1 : Int32)) ξ_8
      else
        fX0_bestSettings_L17 K n x17_3 r_7 (x17_3 + (1 : Int32)) ξ_8
def fX0_bestSettings (K : Nat) (μ : XS) : Option (Int32 × XS) :=
  b2 (fX0_isReady K μ) fun r_2 ξ_3 =>
  if r_2 = true then
    fX0_bestSettings_L17 K K (0 : Int32) (100000 : Int32) (0 : Int32) ξ_3
  else
    some ((-1 : Int32), ξ_3)
set_option maxHeartbeats 4000000 in
set_option maxRecDepth 100000 in
theorem tX0_bestSettings (l : Launch) (D : va_G) (d : Nat → ClassId) (z : ZT) (b : Nat → Nat) (fl : Option Nat) (K : Nat) (μ : XS) (r : Int32) (μ' : XS) (hf : fX0_bestSettings K μ = some (r, μ')) : CI l yX0_bestSettings (ws_ yX0_bestSettings cX0_bestSettings 5 (Option.some Jvm.ClassFile.FieldType.int)) (rmc 7 0 0 153) D d z [.ref (b 0)] (XP d z b fl μ) r (XP d z b fl μ') := by
  refine CI.of2 (own := RX0) rfl (by decide) (Nat.le_of_ble_eq_true rfl) rfl ?_
  intro p e s m args below meth c A Q ls S hin hK hP hD hZ hS hA hl hret0
  have hret : ∀ (x : Int32) (μx : XS) (H : Heap) (locs : List Loc) (pc : Nat) (ls' : Array Slot), some (x, μx) = some (r, μ') → decode cX0_bestSettings pc = .ok (.ireturn, 1) → va_P D CL (XP d z b fl μx) H → va_D A (XP d z b fl μx) → va_S A s.heap H locs → W p l e (rmc 7 0 0 153) s m args below meth c H locs 0 0 Q (F0 m pc ls' [.int x]) := by
    intro x μx H locs pc ls' h9 hdg hP hD hS
    obtain ⟨rfl, rfl⟩ := so_2 h9
    exact hret0 H locs pc ls' hdg hP hD hS
  have hx := S.1
  have hb := S.2.1
  have hts := S.2.2.2.2
  have hl : lv_has ls 5 [(0, .ref (b 0))] := hl
  have L17 : ∀ (n : Nat) (x17_1 : Int32) (x17_2 : Int32) (x17_3 : Int32) (μ17 : XS) (H : Heap) (locs : List Loc) (ls : Array Slot), fX0_bestSettings_L17 K n x17_1 x17_2 x17_3 μ17 = some (r, μ') → va_P D CL (XP d z b fl μ17) H → va_D A (XP d z b fl μ17) → va_S A s.heap H locs → lv_has ls 5 [(0, .ref (b 0)), (1, .int x17_1), (2, .int x17_2), (3, .int x17_3)] → W p l e (rmc 7 0 0 153) s m args below meth c H locs 0 0 Q (F0 m 17 ls []) := by
    intro n
    induction n with
    | zero =>
      intro x17_1 x17_2 x17_3 μ17 H locs ls hf hP hD hS hl
      rw [fX0_bestSettings_L17] at hf
      cases hf
    | succ n ih =>
      intro x17_1 x17_2 x17_3 μ17 H locs ls hf hP hD hS hl
      rw [fX0_bestSettings_L17] at hf
      refine lv_iload_n hx hb dX0_bestSettings_17 rfl (lv_at hl 3 rfl) ?_
      refine lv_sipush (v := 8192) hx hb dX0_bestSettings_18 (by decide) ?_
      refine lv_icmp_ge (tgt := 48) hx hb dX0_bestSettings_21 (by decide) (fun c_5 => ?_) (fun c_5 => ?_)
      · replace hf := it_t hf c_5
        clear c_5
        refine lv_iload_n hx hb dX0_bestSettings_48 rfl (lv_at hl 1 rfl) ?_
        refine W.widen (k := 0) (n := 0) (Nat.le_of_ble_eq_true rfl) (Nat.le_of_ble_eq_true rfl) ?_
        exact hret _ _ _ _ _ _ hf dX0_bestSettings_49 hP hD hS
      · replace hf := it_f hf c_5
        clear c_5
        refine lv_aload_n hx hb dX0_bestSettings_24 rfl (lv_at hl 0 rfl) ?_
        refine lv_iload_n hx hb dX0_bestSettings_25 rfl (lv_at hl 3 rfl) ?_
        obtain ⟨r_7, ξ_8, h_6, hf⟩ := b2_some hf
        refine runW_i (va_runV (As := [.int x17_3]) (rest := []) S (tX0_swrBy l D d z b fl K x17_3 μ17 r_7 ξ_8 h_6 _) (cwV 1 hts (lw_V q1148 q1150 qs32 q94 q1151) rfl rfl rfl (by decide +kernel) ⟨(Nat.le_of_ble_eq_true rfl), (Nat.le_of_ble_eq_true rfl)⟩) ⟨Pw.blind, (va_recv hK.1 hP (ci := 1) (q0 := 0) rfl rfl), fun U hU hW => Pw.at hK hP hD hZ hS hA hU hW⟩ rfl rfl hl.1 rfl (lv_room (Nat.le_of_ble_eq_true rfl)) dX0_bestSettings_26 ⟨(Nat.le_of_ble_eq_true rfl), (Nat.le_of_ble_eq_true rfl)⟩) hP hD hS hA ?_
        clear hP hD hS
        intro H locs hP hD hS
        clear h_6
        refine lv_istore (lv' := [(4, .int r_7), (0, .ref (b 0)), (1, .int x17_1), (2, .int x17_2), (3, .int x17_3)]) hx hb dX0_bestSettings_29 hl (by decide) rfl (fun ls hl => ?_)
        refine lv_iload hx hb dX0_bestSettings_31 (lv_at hl 0 rfl) ?_
        refine lv_iload_n hx hb dX0_bestSettings_33 rfl (lv_at hl 3 rfl) ?_
        refine lv_icmp_ge (tgt := 42) hx hb dX0_bestSettings_34 (by decide) (fun c_9 => ?_) (fun c_9 => ?_)
        · replace hf := it_t hf c_9
          clear c_9
          refine lv_iinc (v := x17_3 + (1 : Int32)) (lv' := [(3, .int (x17_3 + (1 : Int32))), (4, .int r_7), (0, .ref (b 0)), (1, .int x17_1), (2, .int x17_2)]) hx hb dX0_bestSettings_42 hl (k := 4) rfl rfl (by decide) rfl (fun ls hl => ?_)
          refine lv_goto (tgt := 17) hx hb dX0_bestSettings_45 (by decide) ?_
          exact ih x17_1 x17_2 (x17_3 + (1 : Int32)) ξ_8 _ _ _ hf hP hD hS (lv_sub hl [2, 3, 4, 0] rfl)
        · replace hf := it_f hf c_9
          clear c_9
          refine lv_iload_n hx hb dX0_bestSettings_37 rfl (lv_at hl 4 rfl) ?_
          refine lv_istore_n (lv' := [(1, .int x17_3), (4, .int r_7), (0, .ref (b 0)), (2, .int x17_2), (3, .int x17_3)]) hx hb dX0_bestSettings_38 rfl hl (by decide) rfl (fun ls hl => ?_)
          refine lv_iload hx hb dX0_bestSettings_39 (lv_at hl 1 rfl) ?_
          refine lv_istore_n (lv' := [(2, .int r_7), (1, .int x17_3), (4, .int r_7), (0, .ref (b 0)), (3, .int x17_3)]) hx hb dX0_bestSettings_41 rfl hl (by decide) rfl (fun ls hl => ?_)
          refine lv_iinc (v := x17_3 + (1 : Int32)) (lv' := [(3, .int (x17_3 + (1 : Int32))), (2, .int r_7), (1, .int x17_3), (4, .int r_7), (0, .ref (b 0))]) hx hb dX0_bestSettings_42 hl (k := 4) rfl rfl (by decide) rfl (fun ls hl => ?_)
          refine lv_goto (tgt := 17) hx hb dX0_bestSettings_45 (by decide) ?_
          exact ih x17_3 r_7 (x17_3 + (1 : Int32)) ξ_8 _ _ _ hf hP hD hS (lv_sub hl [4, 2, 1, 0] rfl)
  unfold fX0_bestSettings at hf
  refine lv_aload_n hx hb dX0_bestSettings_0 rfl (lv_at hl 0 rfl) ?_
  obtain ⟨r_2, ξ_3, h_1, hf⟩ := b2_some hf
  refine runW_i (va_runV (As := []) (rest := []) S (tX0_isReady l D d z b fl K μ r_2 ξ_3 h_1 _) (cwV 0 hts (lw_V q857 q859 qs18 q94 q860) rfl rfl rfl (by decide +kernel) ⟨(Nat.le_of_ble_eq_true rfl), (Nat.le_of_ble_eq_true rfl)⟩) ⟨Pw.blind, (va_recv hK.1 hP (ci := 1) (q0 := 0) rfl rfl), fun U hU hW => Pw.at hK hP hD hZ hS hA hU hW⟩ rfl rfl hl.1 rfl (lv_room (Nat.le_of_ble_eq_true rfl)) dX0_bestSettings_1 ⟨(Nat.le_of_ble_eq_true rfl), (Nat.le_of_ble_eq_true rfl)⟩) hP hD hS hA ?_
  clear hP hD hS
  intro H locs hP hD hS
  clear h_1
  refine lv_if_ne (tgt := 9) hx hb dX0_bestSettings_4 (by decide) (fun c_4 => ?_) (fun c_4 => ?_)
  · replace hf := it_t hf (bi_n0 c_4)
    clear c_4
    refine lv_iconst (v := 0) hx hb dX0_bestSettings_9 (by decide) ?_
    refine lv_istore_n (lv' := [(1, .int (0 : Int32)), (0, .ref (b 0))]) hx hb dX0_bestSettings_10 rfl hl (by decide) rfl (fun ls hl => ?_)
    refine lv_ldcw hx hb S.2.2.2.1 (hts _ q1446) dX0_bestSettings_11 ?_
    refine lv_istore_n (lv' := [(2, .int (100000 : Int32)), (1, .int (0 : Int32)), (0, .ref (b 0))]) hx hb dX0_bestSettings_14 rfl hl (by decide) rfl (fun ls hl => ?_)
    refine lv_iconst (v := 0) hx hb dX0_bestSettings_15 (by decide) ?_
    refine lv_istore_n (lv' := [(3, .int (0 : Int32)), (2, .int (100000 : Int32)), (1, .int (0 : Int32)), (0, .ref (b 0))]) hx hb dX0_bestSettings_16 rfl hl (by decide) rfl (fun ls hl => ?_)
    exact L17 K (0 : Int32) (100000 : Int32) (0 : Int32) ξ_3 _ _ _ hf hP hD hS (lv_sub hl [3, 2, 1, 0] rfl)
  · replace hf := it_f hf (bi_e0 c_4)
    clear c_4
    refine lv_iconst (v := -1) hx hb dX0_bestSettings_7 (by decide) ?_
    refine W.widen (k := 0) (n := 0) (Nat.le_of_ble_eq_true rfl) (Nat.le_of_ble_eq_true rfl) ?_
    exact hret _ _ _ _ _ _ hf dX0_bestSettings_8 hP hD hS
def fX0_mostEfficient_L43 (K : Nat) (k16 : Int32 → Int32 → Int32 → XS → Option (Int32 × XS)) (t43_0 : Int32) (x43_1 : Int32) (x43_2 : Int32) (x43_3 : Int32) (μ43 : XS) : Option (Int32 × XS) :=
  if t43_0 = 0 then
    k16 x43_1 x43_2 (x43_3 + (1 : Int32)) μ43
  else
    b2 (fX3_efficiency K μ43) fun r_12 ξ_13 =>
    if r_12 ≤ x43_2 then
      k16 x43_1 x43_2 (x43_3 + (1 : Int32)) ξ_13
    else
      b2 (fX3_efficiency K ξ_13) fun r_16 ξ_17 =>
      k16 x43_3 r_16 (x43_3 + (1 : Int32)) ξ_17
def fX0_mostEfficient_L16 (K : Nat) : Nat → Int32 → Int32 → Int32 → XS → Option (Int32 × XS)
  | 0, _, _, _, _ => none
  | n + 1, x16_1, x16_2, x16_3, μ16 =>
    if (8192 : Int32) ≤ x16_3 then
      some (x16_1, μ16)
    else
      b2 (fX0_swrBy K x16_3 μ16) fun r_7 ξ_8 =>
      if (ξ_8.1 45) < r_7 then
        fX0_mostEfficient_L43 K (fX0_mostEfficient_L16 K n) (0 : Int32) x16_1 x16_2 x16_3 ξ_8
      else
        fX0_mostEfficient_L43 K (fX0_mostEfficient_L16 K n) (1 : Int32) x16_1 x16_2 x16_3 ξ_8
def fX0_mostEfficient (K : Nat) (μ : XS) : Option (Int32 × XS) :=
  b2 (fX0_isReady K μ) fun r_2 ξ_3 =>
  if r_2 = true then
    fX0_mostEfficient_L16 K K (-2 : Int32) (-1 : Int32) (0 : Int32) ξ_3
  else
    some ((-1 : Int32), ξ_3)
set_option maxHeartbeats 4000000 in
set_option maxRecDepth 100000 in
theorem tX0_mostEfficient (l : Launch) (D : va_G) (d : Nat → ClassId) (z : ZT) (b : Nat → Nat) (fl : Option Nat) (K : Nat) (μ : XS) (r : Int32) (μ' : XS) (hf : fX0_mostEfficient K μ = some (r, μ')) : CI l yX0_mostEfficient (ws_ yX0_mostEfficient cX0_mostEfficient 5 (Option.some Jvm.ClassFile.FieldType.int)) (rmc 7 0 0 153) D d z [.ref (b 0)] (XP d z b fl μ) r (XP d z b fl μ') := by
  refine CI.of2 (own := RX0) rfl (by decide) (Nat.le_of_ble_eq_true rfl) rfl ?_
  intro p e s m args below meth c A Q ls S hin hK hP hD hZ hS hA hl hret0
  have hret : ∀ (x : Int32) (μx : XS) (H : Heap) (locs : List Loc) (pc : Nat) (ls' : Array Slot), some (x, μx) = some (r, μ') → decode cX0_mostEfficient pc = .ok (.ireturn, 1) → va_P D CL (XP d z b fl μx) H → va_D A (XP d z b fl μx) → va_S A s.heap H locs → W p l e (rmc 7 0 0 153) s m args below meth c H locs 0 0 Q (F0 m pc ls' [.int x]) := by
    intro x μx H locs pc ls' h9 hdg hP hD hS
    obtain ⟨rfl, rfl⟩ := so_2 h9
    exact hret0 H locs pc ls' hdg hP hD hS
  have hx := S.1
  have hb := S.2.1
  have hts := S.2.2.2.2
  have hl : lv_has ls 5 [(0, .ref (b 0))] := hl
  have L16 : ∀ (n : Nat) (x16_1 : Int32) (x16_2 : Int32) (x16_3 : Int32) (μ16 : XS) (H : Heap) (locs : List Loc) (ls : Array Slot), fX0_mostEfficient_L16 K n x16_1 x16_2 x16_3 μ16 = some (r, μ') → va_P D CL (XP d z b fl μ16) H → va_D A (XP d z b fl μ16) → va_S A s.heap H locs → lv_has ls 5 [(0, .ref (b 0)), (1, .int x16_1), (2, .int x16_2), (3, .int x16_3)] → W p l e (rmc 7 0 0 153) s m args below meth c H locs 0 0 Q (F0 m 16 ls []) := by
    intro n
    induction n with
    | zero =>
      intro x16_1 x16_2 x16_3 μ16 H locs ls hf hP hD hS hl
      rw [fX0_mostEfficient_L16] at hf
      cases hf
    | succ n ih =>
      have ih16 := ih
      have L43 : ∀ (t43_0 : Int32) (x43_1 : Int32) (x43_2 : Int32) (x43_3 : Int32) (μ43 : XS) (H : Heap) (locs : List Loc) (ls : Array Slot), fX0_mostEfficient_L43 K (fX0_mostEfficient_L16 K n) t43_0 x43_1 x43_2 x43_3 μ43 = some (r, μ') → va_P D CL (XP d z b fl μ43) H → va_D A (XP d z b fl μ43) → va_S A s.heap H locs → lv_has ls 5 [(0, .ref (b 0)), (1, .int x43_1), (2, .int x43_2), (3, .int x43_3)] → W p l e (rmc 7 0 0 153) s m args below meth c H locs 0 0 Q (F0 m 43 ls [.int t43_0]) := by
        intro t43_0 x43_1 x43_2 x43_3 μ43 H locs ls hf hP hD hS hl
        unfold fX0_mostEfficient_L43 at hf
        refine lv_istore (lv' := [(4, .int t43_0), (0, .ref (b 0)), (1, .int x43_1), (2, .int x43_2), (3, .int x43_3)]) hx hb dX0_mostEfficient_43 hl (by decide) rfl (fun ls hl => ?_)
        refine lv_iload hx hb dX0_mostEfficient_45 (lv_at hl 0 rfl) ?_
        refine lv_if_eq (tgt := 71) hx hb dX0_mostEfficient_47 (by decide) (fun c_10 => ?_) (fun c_10 => ?_)
        · replace hf := it_t hf c_10
          clear c_10
          refine lv_iinc (v := x43_3 + (1 : Int32)) (lv' := [(3, .int (x43_3 + (1 : Int32))), (4, .int t43_0), (0, .ref (b 0)), (1, .int x43_1), (2, .int x43_2)]) hx hb dX0_mostEfficient_71 hl (k := 4) rfl rfl (by decide) rfl (fun ls hl => ?_)
          refine lv_goto (tgt := 16) hx hb dX0_mostEfficient_74 (by decide) ?_
          exact ih16 x43_1 x43_2 (x43_3 + (1 : Int32)) μ43 _ _ _ hf hP hD hS (lv_sub hl [2, 3, 4, 0] rfl)
        · replace hf := it_f hf c_10
          clear c_10
          refine lv_aload_n hx hb dX0_mostEfficient_50 rfl (lv_at hl 1 rfl) ?_
          refine g_get hx hb hts S.2.2.2.1 hK hP in_X0 0 rfl rfl 5 (by decide) q286 (fun _ h9 => h9) (v := .ref (b 4)) rfl dX0_mostEfficient_51 ?_
          obtain ⟨r_12, ξ_13, h_11, hf⟩ := b2_some hf
          refine runW_i (va_runV (As := []) (rest := []) S (tX3_efficiency l D d z b fl K μ43 r_12 ξ_13 h_11 _) (cwV 0 hts (lw_V q1156 q1157 q1158 q98 q1159) rfl rfl rfl (by decide +kernel) ⟨(Nat.le_of_ble_eq_true rfl), (Nat.le_of_ble_eq_true rfl)⟩) ⟨Pw.blind, (va_recv hK.1 hP (ci := 4) (q0 := 4) rfl rfl), fun U hU hW => Pw.at hK hP hD hZ hS hA hU hW⟩ rfl rfl hl.1 rfl (lv_room (Nat.le_of_ble_eq_true rfl)) dX0_mostEfficient_54 ⟨(Nat.le_of_ble_eq_true rfl), (Nat.le_of_ble_eq_true rfl)⟩) hP hD hS hA ?_
          clear hP hD hS
          intro H locs hP hD hS
          clear h_11
          refine lv_iload_n hx hb dX0_mostEfficient_57 rfl (lv_at hl 3 rfl) ?_
          refine lv_icmp_le (tgt := 71) hx hb dX0_mostEfficient_58 (by decide) (fun c_14 => ?_) (fun c_14 => ?_)
          · replace hf := it_t hf c_14
            clear c_14
            refine lv_iinc (v := x43_3 + (1 : Int32)) (lv' := [(3, .int (x43_3 + (1 : Int32))), (4, .int t43_0), (0, .ref (b 0)), (1, .int x43_1), (2, .int x43_2)]) hx hb dX0_mostEfficient_71 hl (k := 4) rfl rfl (by decide) rfl (fun ls hl => ?_)
            refine lv_goto (tgt := 16) hx hb dX0_mostEfficient_74 (by decide) ?_
            exact ih16 x43_1 x43_2 (x43_3 + (1 : Int32)) ξ_13 _ _ _ hf hP hD hS (lv_sub hl [2, 3, 4, 0] rfl)
          · replace hf := it_f hf c_14
            clear c_14
            refine lv_iload_n hx hb dX0_mostEfficient_61 rfl (lv_at hl 4 rfl) ?_
            refine lv_istore_n (lv' := [(1, .int x43_3), (4, .int t43_0), (0, .ref (b 0)), (2, .int x43_2), (3, .int x43_3)]) hx hb dX0_mostEfficient_62 rfl hl (by decide) rfl (fun ls hl => ?_)
            refine lv_aload_n hx hb dX0_mostEfficient_63 rfl (lv_at hl 2 rfl) ?_
            refine g_get hx hb hts S.2.2.2.1 hK hP in_X0 0 rfl rfl 5 (by decide) q286 (fun _ h9 => h9) (v := .ref (b 4)) rfl dX0_mostEfficient_64 ?_
            obtain ⟨r_16, ξ_17, h_15, hf⟩ := b2_some hf
            refine runW_i (va_runV (As := []) (rest := []) S (tX3_efficiency l D d z b fl K ξ_13 r_16 ξ_17 h_15 _) (cwV 0 hts (lw_V q1156 q1157 q1158 q98 q1159) rfl rfl rfl (by decide +kernel) ⟨(Nat.le_of_ble_eq_true rfl), (Nat.le_of_ble_eq_true rfl)⟩) ⟨Pw.blind, (va_recv hK.1 hP (ci := 4) (q0 := 4) rfl rfl), fun U hU hW => Pw.at hK hP hD hZ hS hA hU hW⟩ rfl rfl hl.1 rfl (lv_room (Nat.le_of_ble_eq_true rfl)) dX0_mostEfficient_67 ⟨(Nat.le_of_ble_eq_true rfl), (Nat.le_of_ble_eq_true rfl)⟩) hP hD hS hA ?_
            clear hP hD hS
            intro H locs hP hD hS
            clear h_15
            refine lv_istore_n (lv' := [(2, .int r_16), (1, .int x43_3), (4, .int t43_0), (0, .ref (b 0)), (3, .int x43_3)]) hx hb dX0_mostEfficient_70 rfl hl (by decide) rfl (fun ls hl => ?_)
            refine lv_iinc (v := x43_3 + (1 : Int32)) (lv' := [(3, .int (x43_3 + (1 : Int32))), (2, .int r_16), (1, .int x43_3), (4, .int t43_0), (0, .ref (b 0))]) hx hb dX0_mostEfficient_71 hl (k := 4) rfl rfl (by decide) rfl (fun ls hl => ?_)
            refine lv_goto (tgt := 16) hx hb dX0_mostEfficient_74 (by decide) ?_
            exact ih16 x43_3 r_16 (x43_3 + (1 : Int32)) ξ_17 _ _ _ hf hP hD hS (lv_sub hl [4, 2, 1, 0] rfl)
      intro x16_1 x16_2 x16_3 μ16 H locs ls hf hP hD hS hl
      rw [fX0_mostEfficient_L16] at hf
      refine lv_iload_n hx hb dX0_mostEfficient_16 rfl (lv_at hl 3 rfl) ?_
      refine lv_sipush (v := 8192) hx hb dX0_mostEfficient_17 (by decide) ?_
      refine lv_icmp_ge (tgt := 77) hx hb dX0_mostEfficient_20 (by decide) (fun c_5 => ?_) (fun c_5 => ?_)
      · replace hf := it_t hf c_5
        clear c_5
        refine lv_iload_n hx hb dX0_mostEfficient_77 rfl (lv_at hl 1 rfl) ?_
        refine W.widen (k := 0) (n := 0) (Nat.le_of_ble_eq_true rfl) (Nat.le_of_ble_eq_true rfl) ?_
        exact hret _ _ _ _ _ _ hf dX0_mostEfficient_78 hP hD hS
      · replace hf := it_f hf c_5
        clear c_5
        refine lv_aload_n hx hb dX0_mostEfficient_23 rfl (lv_at hl 0 rfl) ?_
        refine lv_iload_n hx hb dX0_mostEfficient_24 rfl (lv_at hl 3 rfl) ?_
        obtain ⟨r_7, ξ_8, h_6, hf⟩ := b2_some hf
        refine runW_i (va_runV (As := [.int x16_3]) (rest := []) S (tX0_swrBy l D d z b fl K x16_3 μ16 r_7 ξ_8 h_6 _) (cwV 1 hts (lw_V q1148 q1150 qs32 q94 q1151) rfl rfl rfl (by decide +kernel) ⟨(Nat.le_of_ble_eq_true rfl), (Nat.le_of_ble_eq_true rfl)⟩) ⟨Pw.blind, (va_recv hK.1 hP (ci := 1) (q0 := 0) rfl rfl), fun U hU hW => Pw.at hK hP hD hZ hS hA hU hW⟩ rfl rfl hl.1 rfl (lv_room (Nat.le_of_ble_eq_true rfl)) dX0_mostEfficient_25 ⟨(Nat.le_of_ble_eq_true rfl), (Nat.le_of_ble_eq_true rfl)⟩) hP hD hS hA ?_
        clear hP hD hS
        intro H locs hP hD hS
        clear h_6
        refine lv_aload_n hx hb dX0_mostEfficient_28 rfl (lv_at hl 0 rfl) ?_
        refine g_get hx hb hts S.2.2.2.1 hK hP in_X0 0 rfl rfl 7 (by decide) q291 (fun _ h9 => h9) (v := .ref (b 7)) rfl dX0_mostEfficient_29 ?_
        refine g_getN hx hb hts S.2.2.2.1 hK hP in_X6 7 rfl rfl 5 (by decide) q364 (fun _ h9 => h9) (v := .int (ξ_8.1 45)) rfl dX0_mostEfficient_32 ?_
        refine lv_icmp_gt (tgt := 42) hx hb dX0_mostEfficient_35 (by decide) (fun c_9 => ?_) (fun c_9 => ?_)
        · replace hf := it_t hf c_9
          clear c_9
          refine lv_iconst (v := 0) hx hb dX0_mostEfficient_42 (by decide) ?_
          exact L43 (0 : Int32) x16_1 x16_2 x16_3 ξ_8 _ _ _ hf hP hD hS (lv_sub hl [0, 1, 2, 3] rfl)
        · replace hf := it_f hf c_9
          clear c_9
          refine lv_iconst (v := 1) hx hb dX0_mostEfficient_38 (by decide) ?_
          refine lv_goto (tgt := 43) hx hb dX0_mostEfficient_39 (by decide) ?_
          exact L43 (1 : Int32) x16_1 x16_2 x16_3 ξ_8 _ _ _ hf hP hD hS (lv_sub hl [0, 1, 2, 3] rfl)
  unfold fX0_mostEfficient at hf
  refine lv_aload_n hx hb dX0_mostEfficient_0 rfl (lv_at hl 0 rfl) ?_
  obtain ⟨r_2, ξ_3, h_1, hf⟩ := b2_some hf
  refine runW_i (va_runV (As := []) (rest := []) S (tX0_isReady l D d z b fl K μ r_2 ξ_3 h_1 _) (cwV 0 hts (lw_V q857 q859 qs18 q94 q860) rfl rfl rfl (by decide +kernel) ⟨(Nat.le_of_ble_eq_true rfl), (Nat.le_of_ble_eq_true rfl)⟩) ⟨Pw.blind, (va_recv hK.1 hP (ci := 1) (q0 := 0) rfl rfl), fun U hU hW => Pw.at hK hP hD hZ hS hA hU hW⟩ rfl rfl hl.1 rfl (lv_room (Nat.le_of_ble_eq_true rfl)) dX0_mostEfficient_1 ⟨(Nat.le_of_ble_eq_true rfl), (Nat.le_of_ble_eq_true rfl)⟩) hP hD hS hA ?_
  clear hP hD hS
  intro H locs hP hD hS
  clear h_1
  refine lv_if_ne (tgt := 9) hx hb dX0_mostEfficient_4 (by decide) (fun c_4 => ?_) (fun c_4 => ?_)
  · replace hf := it_t hf (bi_n0 c_4)
    clear c_4
    refine lv_bipush (v := -2) hx hb dX0_mostEfficient_9 (by decide) ?_
    refine lv_istore_n (lv' := [(1, .int (-2 : Int32)), (0, .ref (b 0))]) hx hb dX0_mostEfficient_11 rfl hl (by decide) rfl (fun ls hl => ?_)
    refine lv_iconst (v := -1) hx hb dX0_mostEfficient_12 (by decide) ?_
    refine lv_istore_n (lv' := [(2, .int (-1 : Int32)), (1, .int (-2 : Int32)), (0, .ref (b 0))]) hx hb dX0_mostEfficient_13 rfl hl (by decide) rfl (fun ls hl => ?_)
    refine lv_iconst (v := 0) hx hb dX0_mostEfficient_14 (by decide) ?_
    refine lv_istore_n (lv' := [(3, .int (0 : Int32)), (2, .int (-1 : Int32)), (1, .int (-2 : Int32)), (0, .ref (b 0))]) hx hb dX0_mostEfficient_15 rfl hl (by decide) rfl (fun ls hl => ?_)
    exact L16 K (-2 : Int32) (-1 : Int32) (0 : Int32) ξ_3 _ _ _ hf hP hD hS (lv_sub hl [3, 2, 1, 0] rfl)
  · replace hf := it_f hf (bi_e0 c_4)
    clear c_4
    refine lv_iconst (v := -1) hx hb dX0_mostEfficient_7 (by decide) ?_
    refine W.widen (k := 0) (n := 0) (Nat.le_of_ble_eq_true rfl) (Nat.le_of_ble_eq_true rfl) ?_
    exact hret _ _ _ _ _ _ hf dX0_mostEfficient_8 hP hD hS
def fX0_swrWith (K : Nat) (p0 : Int32) (p1 : Int32) (p2 : Int32) (μ : XS) : Option (Int32 × XS) :=
  b2 (fX0_areSettings K p0 p1 p2 μ) fun r_2 ξ_3 =>
  if r_2 = true then
    b1 (fX2_init K p0 p1 p2 ((0 : Int32), (0 : Int32), (0 : Int32))) fun ξ_7 =>
    b2 (fX2_code K (ξ_7.1, ξ_7.2.1, ξ_7.2.2)) fun r_9 ξ_10 =>
    b2 (fX0_swrBy K r_9 ξ_3) fun r_12 ξ_13 =>
    some (r_12, ξ_13)
  else
    some ((-1 : Int32), ξ_3)
set_option maxHeartbeats 4000000 in
set_option maxRecDepth 100000 in
theorem tX0_swrWith (l : Launch) (D : va_G) (d : Nat → ClassId) (z : ZT) (b : Nat → Nat) (fl : Option Nat) (K : Nat) (p0 : Int32) (p1 : Int32) (p2 : Int32) (μ : XS) (r : Int32) (μ' : XS) (hf : fX0_swrWith K p0 p1 p2 μ = some (r, μ')) : CI l yX0_swrWith (ws_ yX0_swrWith cX0_swrWith 4 (Option.some Jvm.ClassFile.FieldType.int)) (rmc 7 1 3 153) D d z [.ref (b 0), .int p0, .int p1, .int p2] (XP d z b fl μ) r (XP d z b fl μ') := by
  refine CI.of2 (own := RX0) rfl (by decide) (Nat.le_of_ble_eq_true rfl) rfl ?_
  intro p e s m args below meth c A Q ls S hin hK hP hD hZ hS hA hl hret0
  have hret : ∀ (x : Int32) (μx : XS) (H : Heap) (locs : List Loc) (pc : Nat) (ls' : Array Slot), some (x, μx) = some (r, μ') → decode cX0_swrWith pc = .ok (.ireturn, 1) → va_P D CL (XP d z b fl μx) H → va_D A (XP d z b fl μx) → va_S A s.heap H locs → W p l e (rmc 7 1 3 153) s m args below meth c H locs 1 3 Q (F0 m pc ls' [.int x]) := by
    intro x μx H locs pc ls' h9 hdg hP hD hS
    obtain ⟨rfl, rfl⟩ := so_2 h9
    exact hret0 H locs pc ls' hdg hP hD hS
  have hx := S.1
  have hb := S.2.1
  have hts := S.2.2.2.2
  have hl : lv_has ls 4 [(0, .ref (b 0)), (1, .int p0), (2, .int p1), (3, .int p2)] := hl
  unfold fX0_swrWith at hf
  refine lv_aload_n hx hb dX0_swrWith_0 rfl (lv_at hl 0 rfl) ?_
  refine lv_iload_n hx hb dX0_swrWith_1 rfl (lv_at hl 1 rfl) ?_
  refine lv_iload_n hx hb dX0_swrWith_2 rfl (lv_at hl 2 rfl) ?_
  refine lv_iload_n hx hb dX0_swrWith_3 rfl (lv_at hl 3 rfl) ?_
  obtain ⟨r_2, ξ_3, h_1, hf⟩ := b2_some hf
  refine runW_i (va_runV (As := [.int p0, .int p1, .int p2]) (rest := []) S (tX0_areSettings l D d z b fl K p0 p1 p2 μ r_2 ξ_3 h_1 _) (cwV 3 hts (lw_V q1079 q1081 qs29 q94 q1082) rfl rfl rfl (by decide +kernel) ⟨(Nat.le_of_ble_eq_true rfl), (Nat.le_of_ble_eq_true rfl)⟩) ⟨Pw.blind, (va_recv hK.1 hP (ci := 1) (q0 := 0) rfl rfl), fun U hU hW => Pw.at hK hP hD hZ hS hA hU hW⟩ rfl rfl hl.1 rfl (lv_room (Nat.le_of_ble_eq_true rfl)) dX0_swrWith_4 ⟨(Nat.le_of_ble_eq_true rfl), (Nat.le_of_ble_eq_true rfl)⟩) hP hD hS hA ?_
  clear hP hD hS
  intro H locs hP hD hS
  clear h_1
  refine lv_if_eq (tgt := 30) hx hb dX0_swrWith_7 (by decide) (fun c_4 => ?_) (fun c_4 => ?_)
  · replace hf := it_f hf (bi_e0 c_4)
    clear c_4
    refine lv_iconst (v := -1) hx hb dX0_swrWith_30 (by decide) ?_
    refine W.widen (k := 1) (n := 3) (Nat.le_of_ble_eq_true rfl) (Nat.le_of_ble_eq_true rfl) ?_
    exact hret _ _ _ _ _ _ hf dX0_swrWith_31 hP hD hS
  · replace hf := it_t hf (bi_n0 c_4)
    clear c_4
    refine lv_aload_n hx hb dX0_swrWith_10 rfl (lv_at hl 0 rfl) ?_
    refine g_new hx hb hts S.2.2.2.1 hK hP hD hS hA (ci := 3) in_X2 tyX2 tyX2_ok q178 q179 q97 rfl (fs := [.int (0 : Int32), .int (0 : Int32), .int (0 : Int32)]) (fun j hj => by rcases (show j = 0 ∨ j = 1 ∨ j = 2 by omega) with rfl | rfl | rfl <;> rfl) (Nat.le_of_ble_eq_true rfl) (Nat.le_of_ble_eq_true rfl) (w1 := fun q => XP d z b fl ξ_3 ++ [(q, .inr (3, [.int (0 : Int32), .int (0 : Int32), .int (0 : Int32)]))]) (fun _ => rfl) dX0_swrWith_11 ?_
    clear hP hD hS
    intro q_5 H hP hD hS
    refine lv_dup hx hb dX0_swrWith_14 rfl ?_
    refine lv_iload_n hx hb dX0_swrWith_15 rfl (lv_at hl 1 rfl) ?_
    refine lv_iload_n hx hb dX0_swrWith_16 rfl (lv_at hl 2 rfl) ?_
    refine lv_iload_n hx hb dX0_swrWith_17 rfl (lv_at hl 3 rfl) ?_
    obtain ⟨ξ_7, h_6, hf⟩ := b1_some hf
    refine run_v0 (wr := [(b 0, .inr (1, [.ref (b 1), .int (ξ_3.1 1), .int (ξ_3.1 2), .ref (b 2), .ref (b 3), .ref (b 4), va_rf fl, .ref (b 7), .ref (b 13), .ref (b 16), .int (ξ_3.1 10)])), (b 1, .inl (d 2, 500, .inl (ξ_3.2.2.1 1))), (b 2, .inl (d 5, 2, .inr (.inr (.inr (.inr (fun j => some (z.2.2 j))))))), (b 3, .inl (d 6, 5, .inr (.inr (.inr (.inr (fun j => some (z.2.2 (2 + j)))))))), (b 4, .inr (4, [.int (ξ_3.1 20), .long (ξ_3.2.1 21), .long (ξ_3.2.1 22), .long (ξ_3.2.1 23), .ref (b 5), .ref (b 6), .ref (b 0)])), (b 5, .inr (2, [.long (ξ_3.2.1 30), .long (ξ_3.2.1 31)])), (b 6, .inr (2, [.long (ξ_3.2.1 32), .long (ξ_3.2.1 33)])), (b 7, .inr (6, [.int (ξ_3.1 40), .int (ξ_3.1 41), .int (ξ_3.1 42), .int (ξ_3.1 43), .int (ξ_3.1 44), .int (ξ_3.1 45), .ref (b 8), .ref (b 9), .ref (b 10), .int (ξ_3.1 49), .ref (b 11), .ref (b 12), .int (ξ_3.1 52)])), (b 8, .inl (d 0, 16, .inl (ξ_3.2.2.1 46))), (b 9, .inl (d 1, 16, .inr (.inl (ξ_3.2.2.2.1 47)))), (b 10, .inl (d 1, 16, .inr (.inl (ξ_3.2.2.2.1 48)))), (b 11, .inl (d 0, 8, .inl (ξ_3.2.2.1 50))), (b 12, .inl (d 0, 8, .inl (ξ_3.2.2.1 51))), (b 13, .inr (8, [.int (ξ_3.1 60), .int (ξ_3.1 61), .int (ξ_3.1 62), .int (ξ_3.1 63), .ref (b 14), .ref (b 15), .int (ξ_3.1 66), .ref (b 17)])), (b 14, .inl (d 0, 100, .inl (ξ_3.2.2.1 64))), (b 15, .inl (d 3, 100, .inl (ξ_3.2.2.1 65)))]) (w' := XP d z b fl ξ_3 ++ [(q_5, .inr (3, [.int ξ_7.1, .int ξ_7.2.1, .int ξ_7.2.2]))]) (va_runI (As := [.int p0, .int p1, .int p2]) (rest := [.ref q_5, .ref (b 0)]) S (tX2_init l D d z q_5 K p0 p1 p2 ((0 : Int32), (0 : Int32), (0 : Int32)) ξ_7 h_6 _) (cwI 3 hts (lw_meth q182) rfl rfl rfl (hts _ q97) (hts _ q180) (hts _ q181) rfl (by decide +kernel) ⟨(Nat.le_of_ble_eq_true rfl), (Nat.le_of_ble_eq_true rfl)⟩) ⟨Pw.blind, fun U hU hW => Pw.cut (tl := []) hK (by rw [List.append_nil]; exact hP) (by rw [List.append_nil]; exact hD) hZ hS hA [16] rfl rfl hU hW⟩ rfl rfl hl.1 rfl (lv_room (Nat.le_of_ble_eq_true rfl)) dX0_swrWith_18 ⟨(Nat.le_of_ble_eq_true rfl), (Nat.le_of_ble_eq_true rfl)⟩) hP hD hS hA [16] [0, 1, 2, 3, 4, 5, 6, 7, 8, 9, 10, 11, 12, 13, 14, 15] [0, 1, 2, 3, 4, 5, 6, 7, 8, 9, 10, 11, 12, 13, 14, 15, 16] rfl rfl rfl rfl (by decide) rfl rfl ?_
    clear hP hD hS
    intro H locs hP hD hS
    clear h_6
    obtain ⟨r_9, ξ_10, h_8, hf⟩ := b2_some hf
    refine run_i0 (wr := [(b 0, .inr (1, [.ref (b 1), .int (ξ_3.1 1), .int (ξ_3.1 2), .ref (b 2), .ref (b 3), .ref (b 4), va_rf fl, .ref (b 7), .ref (b 13), .ref (b 16), .int (ξ_3.1 10)])), (b 1, .inl (d 2, 500, .inl (ξ_3.2.2.1 1))), (b 2, .inl (d 5, 2, .inr (.inr (.inr (.inr (fun j => some (z.2.2 j))))))), (b 3, .inl (d 6, 5, .inr (.inr (.inr (.inr (fun j => some (z.2.2 (2 + j)))))))), (b 4, .inr (4, [.int (ξ_3.1 20), .long (ξ_3.2.1 21), .long (ξ_3.2.1 22), .long (ξ_3.2.1 23), .ref (b 5), .ref (b 6), .ref (b 0)])), (b 5, .inr (2, [.long (ξ_3.2.1 30), .long (ξ_3.2.1 31)])), (b 6, .inr (2, [.long (ξ_3.2.1 32), .long (ξ_3.2.1 33)])), (b 7, .inr (6, [.int (ξ_3.1 40), .int (ξ_3.1 41), .int (ξ_3.1 42), .int (ξ_3.1 43), .int (ξ_3.1 44), .int (ξ_3.1 45), .ref (b 8), .ref (b 9), .ref (b 10), .int (ξ_3.1 49), .ref (b 11), .ref (b 12), .int (ξ_3.1 52)])), (b 8, .inl (d 0, 16, .inl (ξ_3.2.2.1 46))), (b 9, .inl (d 1, 16, .inr (.inl (ξ_3.2.2.2.1 47)))), (b 10, .inl (d 1, 16, .inr (.inl (ξ_3.2.2.2.1 48)))), (b 11, .inl (d 0, 8, .inl (ξ_3.2.2.1 50))), (b 12, .inl (d 0, 8, .inl (ξ_3.2.2.1 51))), (b 13, .inr (8, [.int (ξ_3.1 60), .int (ξ_3.1 61), .int (ξ_3.1 62), .int (ξ_3.1 63), .ref (b 14), .ref (b 15), .int (ξ_3.1 66), .ref (b 17)])), (b 14, .inl (d 0, 100, .inl (ξ_3.2.2.1 64))), (b 15, .inl (d 3, 100, .inl (ξ_3.2.2.1 65)))]) (w' := XP d z b fl ξ_3 ++ [(q_5, .inr (3, [.int ξ_10.1, .int ξ_10.2.1, .int ξ_10.2.2]))]) (va_runV (As := []) (rest := [.ref (b 0)]) S (tX2_code l D d z q_5 K (ξ_7.1, ξ_7.2.1, ξ_7.2.2) r_9 ξ_10 h_8 _) (cwV 0 hts (lw_V q1048 q1049 q1050 q97 q1051) rfl rfl rfl (by decide +kernel) ⟨(Nat.le_of_ble_eq_true rfl), (Nat.le_of_ble_eq_true rfl)⟩) ⟨Pw.blind, (va_recv hK.1 hP (ci := 3) (q0 := 16) rfl rfl), fun U hU hW => Pw.cut (tl := []) hK (by rw [List.append_nil]; exact hP) (by rw [List.append_nil]; exact hD) hZ hS hA [16] rfl rfl hU hW⟩ rfl rfl hl.1 rfl (lv_room (Nat.le_of_ble_eq_true rfl)) dX0_swrWith_21 ⟨(Nat.le_of_ble_eq_true rfl), (Nat.le_of_ble_eq_true rfl)⟩) hP hD hS hA [16] [0, 1, 2, 3, 4, 5, 6, 7, 8, 9, 10, 11, 12, 13, 14, 15] [0, 1, 2, 3, 4, 5, 6, 7, 8, 9, 10, 11, 12, 13, 14, 15, 16] rfl rfl rfl rfl (by decide) rfl rfl ?_
    clear hP hD hS
    intro H locs hP hD hS
    clear h_8
    obtain ⟨r_12, ξ_13, h_11, hf⟩ := b2_some hf
    refine run_i0 (wr := [(q_5, .inr (3, [.int ξ_10.1, .int ξ_10.2.1, .int ξ_10.2.2]))]) (w' := XP d z b fl ξ_13 ++ [(q_5, .inr (3, [.int ξ_10.1, .int ξ_10.2.1, .int ξ_10.2.2]))]) (va_runV (As := [.int r_9]) (rest := []) S (tX0_swrBy l D d z b fl K r_9 ξ_3 r_12 ξ_13 h_11 _) (cwV 1 hts (lw_V q1148 q1150 qs32 q94 q1151) rfl rfl rfl (by decide +kernel) ⟨(Nat.le_of_ble_eq_true rfl), (Nat.le_of_ble_eq_true rfl)⟩) ⟨Pw.blind, (va_recv hK.1 hP (ci := 1) (q0 := 0) rfl rfl), fun U hU hW => Pw.cut (tl := []) hK (by rw [List.append_nil]; exact hP) (by rw [List.append_nil]; exact hD) hZ hS hA [0, 1, 2, 3, 4, 5, 6, 7, 8, 9, 10, 11, 12, 13, 14, 15] rfl rfl hU hW⟩ rfl rfl hl.1 rfl (lv_room (Nat.le_of_ble_eq_true rfl)) dX0_swrWith_24 ⟨(Nat.le_of_ble_eq_true rfl), (Nat.le_of_ble_eq_true rfl)⟩) hP hD hS hA [0, 1, 2, 3, 4, 5, 6, 7, 8, 9, 10, 11, 12, 13, 14, 15] [16] [1, 2, 3, 4, 5, 6, 7, 8, 9, 10, 11, 12, 13, 14, 15, 16, 0] rfl rfl rfl rfl (by decide) rfl rfl ?_
    clear hP hD hS
    intro H locs hP hD hS
    clear h_11
    refine lv_goto (tgt := 31) hx hb dX0_swrWith_27 (by decide) ?_
    have hP := hP.sub (ws' := XP d z b fl ξ_13) [0, 1, 2, 3, 4, 5, 6, 7, 8, 9, 10, 11, 12, 13, 14, 15] rfl
    have hD := hD.sub (ws' := XP d z b fl ξ_13) [0, 1, 2, 3, 4, 5, 6, 7, 8, 9, 10, 11, 12, 13, 14, 15] (by decide) rfl
    refine W.widen (k := 1) (n := 3) (Nat.le_of_ble_eq_true rfl) (Nat.le_of_ble_eq_true rfl) ?_
    exact hret _ _ _ _ _ _ hf dX0_swrWith_31 hP hD hS
def fX0_antennaResistanceu (K : Nat) (p0 : Int32) (μ : XS) : Option (Int64 × XS) :=
  b2 (fX0_isReadyu K μ) fun r_2 ξ_3 =>
  if r_2 = true then
    b1 (fX0_isFrequency K p0) fun r_5 =>
    if r_5 = true then
      none
    else
      some ((-1 : Int64), ξ_3)
  else
    some ((-1 : Int64), ξ_3)
set_option maxHeartbeats 4000000 in
set_option maxRecDepth 100000 in
theorem tX0_antennaResistanceu (l : Launch) (D : va_G) (d : Nat → ClassId) (z : ZT) (b : Nat → Nat) (fl : Option Nat) (K : Nat) (p0 : Int32) (μ : XS) (r : Int64) (μ' : XS) (hf : fX0_antennaResistanceu K p0 μ = some (r, μ')) : CJ l yX0_antennaResistance (ws_ yX0_antennaResistance cX0_antennaResistance 2 (Option.some Jvm.ClassFile.FieldType.long)) (rmc 2 0 0 44) D d z [.ref (b 0), .int p0] (XU d z b fl μ) r (XU d z b fl μ') := by
  refine CJ.of2 (own := RX0) rfl (by decide) (Nat.le_of_ble_eq_true rfl) ?_
  intro p e s m args below meth c A Q ls S hin hK hP hD hZ hS hA hl hret0
  have hret : ∀ (x : Int64) (μx : XS) (H : Heap) (locs : List Loc) (pc : Nat) (ls' : Array Slot), some (x, μx) = some (r, μ') → decode cX0_antennaResistance pc = .ok (.lreturn, 1) → va_P D CL (XU d z b fl μx) H → va_D A (XU d z b fl μx) → va_S A s.heap H locs → W p l e (rmc 2 0 0 44) s m args below meth c H locs 0 0 Q (F0 m pc ls' [.long x]) := by
    intro x μx H locs pc ls' h9 hdg hP hD hS
    obtain ⟨rfl, rfl⟩ := so_2 h9
    exact hret0 H locs pc ls' hdg hP hD hS
  have hx := S.1
  have hb := S.2.1
  have hts := S.2.2.2.2
  have hl : lv_has ls 2 [(0, .ref (b 0)), (1, .int p0)] := hl
  unfold fX0_antennaResistanceu at hf
  refine lv_aload_n hx hb dX0_antennaResistance_0 rfl (lv_at hl 0 rfl) ?_
  obtain ⟨r_2, ξ_3, h_1, hf⟩ := b2_some hf
  refine runW_i (va_runV (As := []) (rest := []) S (tX0_isReadyu l D d z b fl K μ r_2 ξ_3 h_1 _) (cwV 0 hts (lw_V q857 q859 qs18 q94 q860) rfl rfl rfl (by decide +kernel) ⟨(Nat.le_of_ble_eq_true rfl), (Nat.le_of_ble_eq_true rfl)⟩) ⟨Pw.blind, (va_recv hK.1 hP (ci := 1) (q0 := 0) rfl rfl), fun U hU hW => Pw.at hK hP hD hZ hS hA hU hW⟩ rfl rfl hl.1 rfl (lv_room (Nat.le_of_ble_eq_true rfl)) dX0_antennaResistance_1 ⟨(Nat.le_of_ble_eq_true rfl), (Nat.le_of_ble_eq_true rfl)⟩) hP hD hS hA ?_
  clear hP hD hS
  intro H locs hP hD hS
  clear h_1
  refine lv_if_eq (tgt := 25) hx hb dX0_antennaResistance_4 (by decide) (fun c_4 => ?_) (fun c_4 => ?_)
  · replace hf := it_f hf (bi_e0 c_4)
    clear c_4
    refine lv_ldc2 hx hb S.2.2.2.1 (hts _ q872) dX0_antennaResistance_25 ?_
    refine W.widen (k := 0) (n := 0) (Nat.le_of_ble_eq_true rfl) (Nat.le_of_ble_eq_true rfl) ?_
    exact hret _ _ _ _ _ _ hf dX0_antennaResistance_28 hP hD hS
  · replace hf := it_t hf (bi_n0 c_4)
    clear c_4
    refine lv_iload_n hx hb dX0_antennaResistance_7 rfl (lv_at hl 1 rfl) ?_
    obtain ⟨r_5, h_6, hf⟩ := b1_some hf
    refine si_call S (tX0_isFrequency l K p0 _ h_6) (va_cwS 1 hts (lw_S q861 q862 q94 q863) rfl rfl rfl (by decide +kernel) ⟨(Nat.le_of_ble_eq_true rfl), (Nat.le_of_ble_eq_true rfl)⟩) rfl hl.1 rfl (Nat.le_of_ble_eq_true rfl) ⟨(Nat.le_of_ble_eq_true rfl), (Nat.le_of_ble_eq_true rfl)⟩ dX0_antennaResistance_8 ?_
    clear h_6
    refine lv_if_eq (tgt := 25) hx hb dX0_antennaResistance_11 (by decide) (fun c_7 => ?_) (fun c_7 => ?_)
    · replace hf := it_f hf (bi_e0 c_7)
      clear c_7
      refine lv_ldc2 hx hb S.2.2.2.1 (hts _ q872) dX0_antennaResistance_25 ?_
      refine W.widen (k := 0) (n := 0) (Nat.le_of_ble_eq_true rfl) (Nat.le_of_ble_eq_true rfl) ?_
      exact hret _ _ _ _ _ _ hf dX0_antennaResistance_28 hP hD hS
    · replace hf := it_t hf (bi_n0 c_7)
      clear c_7
      cases hf
def fX0_antennaReactanceu (K : Nat) (p0 : Int32) (μ : XS) : Option (Int64 × XS) :=
  b2 (fX0_isReadyu K μ) fun r_2 ξ_3 =>
  if r_2 = true then
    b1 (fX0_isFrequency K p0) fun r_5 =>
    if r_5 = true then
      none
    else
      some ((-9223372036854775808 : Int64), ξ_3)
  else
    some ((-9223372036854775808 : Int64), ξ_3)
set_option maxHeartbeats 4000000 in
set_option maxRecDepth 100000 in
theorem tX0_antennaReactanceu (l : Launch) (D : va_G) (d : Nat → ClassId) (z : ZT) (b : Nat → Nat) (fl : Option Nat) (K : Nat) (p0 : Int32) (μ : XS) (r : Int64) (μ' : XS) (hf : fX0_antennaReactanceu K p0 μ = some (r, μ')) : CJ l yX0_antennaReactance (ws_ yX0_antennaReactance cX0_antennaReactance 2 (Option.some Jvm.ClassFile.FieldType.long)) (rmc 2 0 0 44) D d z [.ref (b 0), .int p0] (XU d z b fl μ) r (XU d z b fl μ') := by
  refine CJ.of2 (own := RX0) rfl (by decide) (Nat.le_of_ble_eq_true rfl) ?_
  intro p e s m args below meth c A Q ls S hin hK hP hD hZ hS hA hl hret0
  have hret : ∀ (x : Int64) (μx : XS) (H : Heap) (locs : List Loc) (pc : Nat) (ls' : Array Slot), some (x, μx) = some (r, μ') → decode cX0_antennaReactance pc = .ok (.lreturn, 1) → va_P D CL (XU d z b fl μx) H → va_D A (XU d z b fl μx) → va_S A s.heap H locs → W p l e (rmc 2 0 0 44) s m args below meth c H locs 0 0 Q (F0 m pc ls' [.long x]) := by
    intro x μx H locs pc ls' h9 hdg hP hD hS
    obtain ⟨rfl, rfl⟩ := so_2 h9
    exact hret0 H locs pc ls' hdg hP hD hS
  have hx := S.1
  have hb := S.2.1
  have hts := S.2.2.2.2
  have hl : lv_has ls 2 [(0, .ref (b 0)), (1, .int p0)] := hl
  unfold fX0_antennaReactanceu at hf
  refine lv_aload_n hx hb dX0_antennaReactance_0 rfl (lv_at hl 0 rfl) ?_
  obtain ⟨r_2, ξ_3, h_1, hf⟩ := b2_some hf
  refine runW_i (va_runV (As := []) (rest := []) S (tX0_isReadyu l D d z b fl K μ r_2 ξ_3 h_1 _) (cwV 0 hts (lw_V q857 q859 qs18 q94 q860) rfl rfl rfl (by decide +kernel) ⟨(Nat.le_of_ble_eq_true rfl), (Nat.le_of_ble_eq_true rfl)⟩) ⟨Pw.blind, (va_recv hK.1 hP (ci := 1) (q0 := 0) rfl rfl), fun U hU hW => Pw.at hK hP hD hZ hS hA hU hW⟩ rfl rfl hl.1 rfl (lv_room (Nat.le_of_ble_eq_true rfl)) dX0_antennaReactance_1 ⟨(Nat.le_of_ble_eq_true rfl), (Nat.le_of_ble_eq_true rfl)⟩) hP hD hS hA ?_
  clear hP hD hS
  intro H locs hP hD hS
  clear h_1
  refine lv_if_eq (tgt := 25) hx hb dX0_antennaReactance_4 (by decide) (fun c_4 => ?_) (fun c_4 => ?_)
  · replace hf := it_f hf (bi_e0 c_4)
    clear c_4
    refine lv_ldc2 hx hb S.2.2.2.1 (hts _ q881) dX0_antennaReactance_25 ?_
    refine W.widen (k := 0) (n := 0) (Nat.le_of_ble_eq_true rfl) (Nat.le_of_ble_eq_true rfl) ?_
    exact hret _ _ _ _ _ _ hf dX0_antennaReactance_28 hP hD hS
  · replace hf := it_t hf (bi_n0 c_4)
    clear c_4
    refine lv_iload_n hx hb dX0_antennaReactance_7 rfl (lv_at hl 1 rfl) ?_
    obtain ⟨r_5, h_6, hf⟩ := b1_some hf
    refine si_call S (tX0_isFrequency l K p0 _ h_6) (va_cwS 1 hts (lw_S q861 q862 q94 q863) rfl rfl rfl (by decide +kernel) ⟨(Nat.le_of_ble_eq_true rfl), (Nat.le_of_ble_eq_true rfl)⟩) rfl hl.1 rfl (Nat.le_of_ble_eq_true rfl) ⟨(Nat.le_of_ble_eq_true rfl), (Nat.le_of_ble_eq_true rfl)⟩ dX0_antennaReactance_8 ?_
    clear h_6
    refine lv_if_eq (tgt := 25) hx hb dX0_antennaReactance_11 (by decide) (fun c_7 => ?_) (fun c_7 => ?_)
    · replace hf := it_f hf (bi_e0 c_7)
      clear c_7
      refine lv_ldc2 hx hb S.2.2.2.1 (hts _ q881) dX0_antennaReactance_25 ?_
      refine W.widen (k := 0) (n := 0) (Nat.le_of_ble_eq_true rfl) (Nat.le_of_ble_eq_true rfl) ?_
      exact hret _ _ _ _ _ _ hf dX0_antennaReactance_28 hP hD hS
    · replace hf := it_t hf (bi_n0 c_7)
      clear c_7
      cases hf
def fX0_resonanceu (K : Nat) (p0 : Int32) (μ : XS) : Option (Int32 × XS) :=
  b2 (fX0_isReadyu K μ) fun r_2 ξ_3 =>
  if r_2 = true then
    b1 (fX0_isIn K p0 (0 : Int32) (100 : Int32)) fun r_5 =>
    if r_5 = true then
      none
    else
      some ((-1 : Int32), ξ_3)
  else
    some ((-1 : Int32), ξ_3)
set_option maxHeartbeats 4000000 in
set_option maxRecDepth 100000 in
theorem tX0_resonanceu (l : Launch) (D : va_G) (d : Nat → ClassId) (z : ZT) (b : Nat → Nat) (fl : Option Nat) (K : Nat) (p0 : Int32) (μ : XS) (r : Int32) (μ' : XS) (hf : fX0_resonanceu K p0 μ = some (r, μ')) : CI l yX0_resonance (ws_ yX0_resonance cX0_resonance 9 (Option.some Jvm.ClassFile.FieldType.int)) (rmc 1 0 0 22) D d z [.ref (b 0), .int p0] (XU d z b fl μ) r (XU d z b fl μ') := by
  refine CI.of2 (own := RX0) rfl (by decide) (Nat.le_of_ble_eq_true rfl) rfl ?_
  intro p e s m args below meth c A Q ls S hin hK hP hD hZ hS hA hl hret0
  have hret : ∀ (x : Int32) (μx : XS) (H : Heap) (locs : List Loc) (pc : Nat) (ls' : Array Slot), some (x, μx) = some (r, μ') → decode cX0_resonance pc = .ok (.ireturn, 1) → va_P D CL (XU d z b fl μx) H → va_D A (XU d z b fl μx) → va_S A s.heap H locs → W p l e (rmc 1 0 0 22) s m args below meth c H locs 0 0 Q (F0 m pc ls' [.int x]) := by
    intro x μx H locs pc ls' h9 hdg hP hD hS
    obtain ⟨rfl, rfl⟩ := so_2 h9
    exact hret0 H locs pc ls' hdg hP hD hS
  have hx := S.1
  have hb := S.2.1
  have hts := S.2.2.2.2
  have hl : lv_has ls 9 [(0, .ref (b 0)), (1, .int p0)] := hl
  unfold fX0_resonanceu at hf
  refine lv_aload_n hx hb dX0_resonance_0 rfl (lv_at hl 0 rfl) ?_
  obtain ⟨r_2, ξ_3, h_1, hf⟩ := b2_some hf
  refine runW_i (va_runV (As := []) (rest := []) S (tX0_isReadyu l D d z b fl K μ r_2 ξ_3 h_1 _) (cwV 0 hts (lw_V q857 q859 qs18 q94 q860) rfl rfl rfl (by decide +kernel) ⟨(Nat.le_of_ble_eq_true rfl), (Nat.le_of_ble_eq_true rfl)⟩) ⟨Pw.blind, (va_recv hK.1 hP (ci := 1) (q0 := 0) rfl rfl), fun U hU hW => Pw.at hK hP hD hZ hS hA hU hW⟩ rfl rfl hl.1 rfl (lv_room (Nat.le_of_ble_eq_true rfl)) dX0_resonance_1 ⟨(Nat.le_of_ble_eq_true rfl), (Nat.le_of_ble_eq_true rfl)⟩) hP hD hS hA ?_
  clear hP hD hS
  intro H locs hP hD hS
  clear h_1
  refine lv_if_eq (tgt := 17) hx hb dX0_resonance_4 (by decide) (fun c_4 => ?_) (fun c_4 => ?_)
  · replace hf := it_f hf (bi_e0 c_4)
    clear c_4
    refine lv_iconst (v := -1) hx hb dX0_resonance_17 (by decide) ?_
    refine W.widen (k := 0) (n := 0) (Nat.le_of_ble_eq_true rfl) (Nat.le_of_ble_eq_true rfl) ?_
    exact hret _ _ _ _ _ _ hf dX0_resonance_18 hP hD hS
  · replace hf := it_t hf (bi_n0 c_4)
    clear c_4
    refine lv_iload_n hx hb dX0_resonance_7 rfl (lv_at hl 1 rfl) ?_
    refine lv_iconst (v := 0) hx hb dX0_resonance_8 (by decide) ?_
    refine lv_bipush (v := 100) hx hb dX0_resonance_9 (by decide) ?_
    obtain ⟨r_5, h_6, hf⟩ := b1_some hf
    refine si_call S (tX0_isIn l K p0 (0 : Int32) (100 : Int32) _ h_6) (va_cwS 3 hts (lw_S q331 q332 q94 q333) rfl rfl rfl (by decide +kernel) ⟨(Nat.le_of_ble_eq_true rfl), (Nat.le_of_ble_eq_true rfl)⟩) rfl hl.1 rfl (Nat.le_of_ble_eq_true rfl) ⟨(Nat.le_of_ble_eq_true rfl), (Nat.le_of_ble_eq_true rfl)⟩ dX0_resonance_11 ?_
    clear h_6
    refine lv_if_ne (tgt := 19) hx hb dX0_resonance_14 (by decide) (fun c_7 => ?_) (fun c_7 => ?_)
    · replace hf := it_t hf (bi_n0 c_7)
      clear c_7
      cases hf
    · replace hf := it_f hf (bi_e0 c_7)
      clear c_7
      refine lv_iconst (v := -1) hx hb dX0_resonance_17 (by decide) ?_
      refine W.widen (k := 0) (n := 0) (Nat.le_of_ble_eq_true rfl) (Nat.le_of_ble_eq_true rfl) ?_
      exact hret _ _ _ _ _ _ hf dX0_resonance_18 hP hD hS
def fX0_bandOfu (K : Nat) (p0 : Int32) (μ : XS) : Option (Int32 × XS) :=
  b2 (fX0_isReadyu K μ) fun r_2 ξ_3 =>
  if r_2 = true then
    b1 (fX0_isFrequency K p0) fun r_5 =>
    if r_5 = true then
      none
    else
      some ((-1 : Int32), ξ_3)
  else
    some ((-1 : Int32), ξ_3)
set_option maxHeartbeats 4000000 in
set_option maxRecDepth 100000 in
theorem tX0_bandOfu (l : Launch) (D : va_G) (d : Nat → ClassId) (z : ZT) (b : Nat → Nat) (fl : Option Nat) (K : Nat) (p0 : Int32) (μ : XS) (r : Int32) (μ' : XS) (hf : fX0_bandOfu K p0 μ = some (r, μ')) : CI l yX0_bandOf (ws_ yX0_bandOf cX0_bandOf 2 (Option.some Jvm.ClassFile.FieldType.int)) (rmc 2 0 0 44) D d z [.ref (b 0), .int p0] (XU d z b fl μ) r (XU d z b fl μ') := by
  refine CI.of2 (own := RX0) rfl (by decide) (Nat.le_of_ble_eq_true rfl) rfl ?_
  intro p e s m args below meth c A Q ls S hin hK hP hD hZ hS hA hl hret0
  have hret : ∀ (x : Int32) (μx : XS) (H : Heap) (locs : List Loc) (pc : Nat) (ls' : Array Slot), some (x, μx) = some (r, μ') → decode cX0_bandOf pc = .ok (.ireturn, 1) → va_P D CL (XU d z b fl μx) H → va_D A (XU d z b fl μx) → va_S A s.heap H locs → W p l e (rmc 2 0 0 44) s m args below meth c H locs 0 0 Q (F0 m pc ls' [.int x]) := by
    intro x μx H locs pc ls' h9 hdg hP hD hS
    obtain ⟨rfl, rfl⟩ := so_2 h9
    exact hret0 H locs pc ls' hdg hP hD hS
  have hx := S.1
  have hb := S.2.1
  have hts := S.2.2.2.2
  have hl : lv_has ls 2 [(0, .ref (b 0)), (1, .int p0)] := hl
  unfold fX0_bandOfu at hf
  refine lv_aload_n hx hb dX0_bandOf_0 rfl (lv_at hl 0 rfl) ?_
  obtain ⟨r_2, ξ_3, h_1, hf⟩ := b2_some hf
  refine runW_i (va_runV (As := []) (rest := []) S (tX0_isReadyu l D d z b fl K μ r_2 ξ_3 h_1 _) (cwV 0 hts (lw_V q857 q859 qs18 q94 q860) rfl rfl rfl (by decide +kernel) ⟨(Nat.le_of_ble_eq_true rfl), (Nat.le_of_ble_eq_true rfl)⟩) ⟨Pw.blind, (va_recv hK.1 hP (ci := 1) (q0 := 0) rfl rfl), fun U hU hW => Pw.at hK hP hD hZ hS hA hU hW⟩ rfl rfl hl.1 rfl (lv_room (Nat.le_of_ble_eq_true rfl)) dX0_bandOf_1 ⟨(Nat.le_of_ble_eq_true rfl), (Nat.le_of_ble_eq_true rfl)⟩) hP hD hS hA ?_
  clear hP hD hS
  intro H locs hP hD hS
  clear h_1
  refine lv_if_eq (tgt := 25) hx hb dX0_bandOf_4 (by decide) (fun c_4 => ?_) (fun c_4 => ?_)
  · replace hf := it_f hf (bi_e0 c_4)
    clear c_4
    refine lv_iconst (v := -1) hx hb dX0_bandOf_25 (by decide) ?_
    refine W.widen (k := 0) (n := 0) (Nat.le_of_ble_eq_true rfl) (Nat.le_of_ble_eq_true rfl) ?_
    exact hret _ _ _ _ _ _ hf dX0_bandOf_26 hP hD hS
  · replace hf := it_t hf (bi_n0 c_4)
    clear c_4
    refine lv_iload_n hx hb dX0_bandOf_7 rfl (lv_at hl 1 rfl) ?_
    obtain ⟨r_5, h_6, hf⟩ := b1_some hf
    refine si_call S (tX0_isFrequency l K p0 _ h_6) (va_cwS 1 hts (lw_S q861 q862 q94 q863) rfl rfl rfl (by decide +kernel) ⟨(Nat.le_of_ble_eq_true rfl), (Nat.le_of_ble_eq_true rfl)⟩) rfl hl.1 rfl (Nat.le_of_ble_eq_true rfl) ⟨(Nat.le_of_ble_eq_true rfl), (Nat.le_of_ble_eq_true rfl)⟩ dX0_bandOf_8 ?_
    clear h_6
    refine lv_if_eq (tgt := 25) hx hb dX0_bandOf_11 (by decide) (fun c_7 => ?_) (fun c_7 => ?_)
    · replace hf := it_f hf (bi_e0 c_7)
      clear c_7
      refine lv_iconst (v := -1) hx hb dX0_bandOf_25 (by decide) ?_
      refine W.widen (k := 0) (n := 0) (Nat.le_of_ble_eq_true rfl) (Nat.le_of_ble_eq_true rfl) ?_
      exact hret _ _ _ _ _ _ hf dX0_bandOf_26 hP hD hS
    · replace hf := it_t hf (bi_n0 c_7)
      clear c_7
      cases hf
def fX0_frequencyu (K : Nat) (μ : XS) : Option (Int32 × XS) :=
  b2 (fX0_isReadyu K μ) fun r_2 ξ_3 =>
  if r_2 = true then
    none
  else
    some ((-1 : Int32), ξ_3)
set_option maxHeartbeats 4000000 in
set_option maxRecDepth 100000 in
theorem tX0_frequencyu (l : Launch) (D : va_G) (d : Nat → ClassId) (z : ZT) (b : Nat → Nat) (fl : Option Nat) (K : Nat) (μ : XS) (r : Int32) (μ' : XS) (hf : fX0_frequencyu K μ = some (r, μ')) : CI l yX0_frequency (ws_ yX0_frequency cX0_frequency 1 (Option.some Jvm.ClassFile.FieldType.int)) (rmc 1 0 0 20) D d z [.ref (b 0)] (XU d z b fl μ) r (XU d z b fl μ') := by
  refine CI.of2 (own := RX0) rfl (by decide) (Nat.le_of_ble_eq_true rfl) rfl ?_
  intro p e s m args below meth c A Q ls S hin hK hP hD hZ hS hA hl hret0
  have hret : ∀ (x : Int32) (μx : XS) (H : Heap) (locs : List Loc) (pc : Nat) (ls' : Array Slot), some (x, μx) = some (r, μ') → decode cX0_frequency pc = .ok (.ireturn, 1) → va_P D CL (XU d z b fl μx) H → va_D A (XU d z b fl μx) → va_S A s.heap H locs → W p l e (rmc 1 0 0 20) s m args below meth c H locs 0 0 Q (F0 m pc ls' [.int x]) := by
    intro x μx H locs pc ls' h9 hdg hP hD hS
    obtain ⟨rfl, rfl⟩ := so_2 h9
    exact hret0 H locs pc ls' hdg hP hD hS
  have hx := S.1
  have hb := S.2.1
  have hts := S.2.2.2.2
  have hl : lv_has ls 1 [(0, .ref (b 0))] := hl
  unfold fX0_frequencyu at hf
  refine lv_aload_n hx hb dX0_frequency_0 rfl (lv_at hl 0 rfl) ?_
  obtain ⟨r_2, ξ_3, h_1, hf⟩ := b2_some hf
  refine runW_i (va_runV (As := []) (rest := []) S (tX0_isReadyu l D d z b fl K μ r_2 ξ_3 h_1 _) (cwV 0 hts (lw_V q857 q859 qs18 q94 q860) rfl rfl rfl (by decide +kernel) ⟨(Nat.le_of_ble_eq_true rfl), (Nat.le_of_ble_eq_true rfl)⟩) ⟨Pw.blind, (va_recv hK.1 hP (ci := 1) (q0 := 0) rfl rfl), fun U hU hW => Pw.at hK hP hD hZ hS hA hU hW⟩ rfl rfl hl.1 rfl (lv_room (Nat.le_of_ble_eq_true rfl)) dX0_frequency_1 ⟨(Nat.le_of_ble_eq_true rfl), (Nat.le_of_ble_eq_true rfl)⟩) hP hD hS hA ?_
  clear hP hD hS
  intro H locs hP hD hS
  clear h_1
  refine lv_if_eq (tgt := 17) hx hb dX0_frequency_4 (by decide) (fun c_4 => ?_) (fun c_4 => ?_)
  · replace hf := it_f hf (bi_e0 c_4)
    clear c_4
    refine lv_iconst (v := -1) hx hb dX0_frequency_17 (by decide) ?_
    refine W.widen (k := 0) (n := 0) (Nat.le_of_ble_eq_true rfl) (Nat.le_of_ble_eq_true rfl) ?_
    exact hret _ _ _ _ _ _ hf dX0_frequency_18 hP hD hS
  · replace hf := it_t hf (bi_n0 c_4)
    clear c_4
    cases hf
def fX0_settingsu (K : Nat) (μ : XS) : Option (Int32 × XS) :=
  b2 (fX0_isReadyu K μ) fun r_2 ξ_3 =>
  if r_2 = true then
    none
  else
    some ((-1 : Int32), ξ_3)
set_option maxHeartbeats 4000000 in
set_option maxRecDepth 100000 in
theorem tX0_settingsu (l : Launch) (D : va_G) (d : Nat → ClassId) (z : ZT) (b : Nat → Nat) (fl : Option Nat) (K : Nat) (μ : XS) (r : Int32) (μ' : XS) (hf : fX0_settingsu K μ = some (r, μ')) : CI l yX0_settings (ws_ yX0_settings cX0_settings 1 (Option.some Jvm.ClassFile.FieldType.int)) (rmc 1 0 0 20) D d z [.ref (b 0)] (XU d z b fl μ) r (XU d z b fl μ') := by
  refine CI.of2 (own := RX0) rfl (by decide) (Nat.le_of_ble_eq_true rfl) rfl ?_
  intro p e s m args below meth c A Q ls S hin hK hP hD hZ hS hA hl hret0
  have hret : ∀ (x : Int32) (μx : XS) (H : Heap) (locs : List Loc) (pc : Nat) (ls' : Array Slot), some (x, μx) = some (r, μ') → decode cX0_settings pc = .ok (.ireturn, 1) → va_P D CL (XU d z b fl μx) H → va_D A (XU d z b fl μx) → va_S A s.heap H locs → W p l e (rmc 1 0 0 20) s m args below meth c H locs 0 0 Q (F0 m pc ls' [.int x]) := by
    intro x μx H locs pc ls' h9 hdg hP hD hS
    obtain ⟨rfl, rfl⟩ := so_2 h9
    exact hret0 H locs pc ls' hdg hP hD hS
  have hx := S.1
  have hb := S.2.1
  have hts := S.2.2.2.2
  have hl : lv_has ls 1 [(0, .ref (b 0))] := hl
  unfold fX0_settingsu at hf
  refine lv_aload_n hx hb dX0_settings_0 rfl (lv_at hl 0 rfl) ?_
  obtain ⟨r_2, ξ_3, h_1, hf⟩ := b2_some hf
  refine runW_i (va_runV (As := []) (rest := []) S (tX0_isReadyu l D d z b fl K μ r_2 ξ_3 h_1 _) (cwV 0 hts (lw_V q857 q859 qs18 q94 q860) rfl rfl rfl (by decide +kernel) ⟨(Nat.le_of_ble_eq_true rfl), (Nat.le_of_ble_eq_true rfl)⟩) ⟨Pw.blind, (va_recv hK.1 hP (ci := 1) (q0 := 0) rfl rfl), fun U hU hW => Pw.at hK hP hD hZ hS hA hU hW⟩ rfl rfl hl.1 rfl (lv_room (Nat.le_of_ble_eq_true rfl)) dX0_settings_1 ⟨(Nat.le_of_ble_eq_true rfl), (Nat.le_of_ble_eq_true rfl)⟩) hP hD hS hA ?_
  clear hP hD hS
  intro H locs hP hD hS
  clear h_1
  refine lv_if_eq (tgt := 17) hx hb dX0_settings_4 (by decide) (fun c_4 => ?_) (fun c_4 => ?_)
  · replace hf := it_f hf (bi_e0 c_4)
    clear c_4
    refine lv_iconst (v := -1) hx hb dX0_settings_17 (by decide) ?_
    refine W.widen (k := 0) (n := 0) (Nat.le_of_ble_eq_true rfl) (Nat.le_of_ble_eq_true rfl) ?_
    exact hret _ _ _ _ _ _ hf dX0_settings_18 hP hD hS
  · replace hf := it_t hf (bi_n0 c_4)
    clear c_4
    cases hf
def fX0_inputResistanceu (K : Nat) (μ : XS) : Option (Int64 × XS) :=
  b2 (fX0_isReadyu K μ) fun r_2 ξ_3 =>
  if r_2 = true then
    none
  else
    some ((-9223372036854775808 : Int64), ξ_3)
set_option maxHeartbeats 4000000 in
set_option maxRecDepth 100000 in
theorem tX0_inputResistanceu (l : Launch) (D : va_G) (d : Nat → ClassId) (z : ZT) (b : Nat → Nat) (fl : Option Nat) (K : Nat) (μ : XS) (r : Int64) (μ' : XS) (hf : fX0_inputResistanceu K μ = some (r, μ')) : CJ l yX0_inputResistance (ws_ yX0_inputResistance cX0_inputResistance 1 (Option.some Jvm.ClassFile.FieldType.long)) (rmc 1 0 0 20) D d z [.ref (b 0)] (XU d z b fl μ) r (XU d z b fl μ') := by
  refine CJ.of2 (own := RX0) rfl (by decide) (Nat.le_of_ble_eq_true rfl) ?_
  intro p e s m args below meth c A Q ls S hin hK hP hD hZ hS hA hl hret0
  have hret : ∀ (x : Int64) (μx : XS) (H : Heap) (locs : List Loc) (pc : Nat) (ls' : Array Slot), some (x, μx) = some (r, μ') → decode cX0_inputResistance pc = .ok (.lreturn, 1) → va_P D CL (XU d z b fl μx) H → va_D A (XU d z b fl μx) → va_S A s.heap H locs → W p l e (rmc 1 0 0 20) s m args below meth c H locs 0 0 Q (F0 m pc ls' [.long x]) := by
    intro x μx H locs pc ls' h9 hdg hP hD hS
    obtain ⟨rfl, rfl⟩ := so_2 h9
    exact hret0 H locs pc ls' hdg hP hD hS
  have hx := S.1
  have hb := S.2.1
  have hts := S.2.2.2.2
  have hl : lv_has ls 1 [(0, .ref (b 0))] := hl
  unfold fX0_inputResistanceu at hf
  refine lv_aload_n hx hb dX0_inputResistance_0 rfl (lv_at hl 0 rfl) ?_
  obtain ⟨r_2, ξ_3, h_1, hf⟩ := b2_some hf
  refine runW_i (va_runV (As := []) (rest := []) S (tX0_isReadyu l D d z b fl K μ r_2 ξ_3 h_1 _) (cwV 0 hts (lw_V q857 q859 qs18 q94 q860) rfl rfl rfl (by decide +kernel) ⟨(Nat.le_of_ble_eq_true rfl), (Nat.le_of_ble_eq_true rfl)⟩) ⟨Pw.blind, (va_recv hK.1 hP (ci := 1) (q0 := 0) rfl rfl), fun U hU hW => Pw.at hK hP hD hZ hS hA hU hW⟩ rfl rfl hl.1 rfl (lv_room (Nat.le_of_ble_eq_true rfl)) dX0_inputResistance_1 ⟨(Nat.le_of_ble_eq_true rfl), (Nat.le_of_ble_eq_true rfl)⟩) hP hD hS hA ?_
  clear hP hD hS
  intro H locs hP hD hS
  clear h_1
  refine lv_if_eq (tgt := 20) hx hb dX0_inputResistance_4 (by decide) (fun c_4 => ?_) (fun c_4 => ?_)
  · replace hf := it_f hf (bi_e0 c_4)
    clear c_4
    refine lv_ldc2 hx hb S.2.2.2.1 (hts _ q881) dX0_inputResistance_20 ?_
    refine W.widen (k := 0) (n := 0) (Nat.le_of_ble_eq_true rfl) (Nat.le_of_ble_eq_true rfl) ?_
    exact hret _ _ _ _ _ _ hf dX0_inputResistance_23 hP hD hS
  · replace hf := it_t hf (bi_n0 c_4)
    clear c_4
    cases hf
def fX0_inputReactanceu (K : Nat) (μ : XS) : Option (Int64 × XS) :=
  b2 (fX0_isReadyu K μ) fun r_2 ξ_3 =>
  if r_2 = true then
    none
  else
    some ((-9223372036854775808 : Int64), ξ_3)
set_option maxHeartbeats 4000000 in
set_option maxRecDepth 100000 in
theorem tX0_inputReactanceu (l : Launch) (D : va_G) (d : Nat → ClassId) (z : ZT) (b : Nat → Nat) (fl : Option Nat) (K : Nat) (μ : XS) (r : Int64) (μ' : XS) (hf : fX0_inputReactanceu K μ = some (r, μ')) : CJ l yX0_inputReactance (ws_ yX0_inputReactance cX0_inputReactance 1 (Option.some Jvm.ClassFile.FieldType.long)) (rmc 1 0 0 20) D d z [.ref (b 0)] (XU d z b fl μ) r (XU d z b fl μ') := by
  refine CJ.of2 (own := RX0) rfl (by decide) (Nat.le_of_ble_eq_true rfl) ?_
  intro p e s m args below meth c A Q ls S hin hK hP hD hZ hS hA hl hret0
  have hret : ∀ (x : Int64) (μx : XS) (H : Heap) (locs : List Loc) (pc : Nat) (ls' : Array Slot), some (x, μx) = some (r, μ') → decode cX0_inputReactance pc = .ok (.lreturn, 1) → va_P D CL (XU d z b fl μx) H → va_D A (XU d z b fl μx) → va_S A s.heap H locs → W p l e (rmc 1 0 0 20) s m args below meth c H locs 0 0 Q (F0 m pc ls' [.long x]) := by
    intro x μx H locs pc ls' h9 hdg hP hD hS
    obtain ⟨rfl, rfl⟩ := so_2 h9
    exact hret0 H locs pc ls' hdg hP hD hS
  have hx := S.1
  have hb := S.2.1
  have hts := S.2.2.2.2
  have hl : lv_has ls 1 [(0, .ref (b 0))] := hl
  unfold fX0_inputReactanceu at hf
  refine lv_aload_n hx hb dX0_inputReactance_0 rfl (lv_at hl 0 rfl) ?_
  obtain ⟨r_2, ξ_3, h_1, hf⟩ := b2_some hf
  refine runW_i (va_runV (As := []) (rest := []) S (tX0_isReadyu l D d z b fl K μ r_2 ξ_3 h_1 _) (cwV 0 hts (lw_V q857 q859 qs18 q94 q860) rfl rfl rfl (by decide +kernel) ⟨(Nat.le_of_ble_eq_true rfl), (Nat.le_of_ble_eq_true rfl)⟩) ⟨Pw.blind, (va_recv hK.1 hP (ci := 1) (q0 := 0) rfl rfl), fun U hU hW => Pw.at hK hP hD hZ hS hA hU hW⟩ rfl rfl hl.1 rfl (lv_room (Nat.le_of_ble_eq_true rfl)) dX0_inputReactance_1 ⟨(Nat.le_of_ble_eq_true rfl), (Nat.le_of_ble_eq_true rfl)⟩) hP hD hS hA ?_
  clear hP hD hS
  intro H locs hP hD hS
  clear h_1
  refine lv_if_eq (tgt := 20) hx hb dX0_inputReactance_4 (by decide) (fun c_4 => ?_) (fun c_4 => ?_)
  · replace hf := it_f hf (bi_e0 c_4)
    clear c_4
    refine lv_ldc2 hx hb S.2.2.2.1 (hts _ q881) dX0_inputReactance_20 ?_
    refine W.widen (k := 0) (n := 0) (Nat.le_of_ble_eq_true rfl) (Nat.le_of_ble_eq_true rfl) ?_
    exact hret _ _ _ _ _ _ hf dX0_inputReactance_23 hP hD hS
  · replace hf := it_t hf (bi_n0 c_4)
    clear c_4
    cases hf
def fX0_swru (K : Nat) (μ : XS) : Option (Int32 × XS) :=
  b2 (fX0_isReadyu K μ) fun r_2 ξ_3 =>
  if r_2 = true then
    none
  else
    some ((-1 : Int32), ξ_3)
set_option maxHeartbeats 4000000 in
set_option maxRecDepth 100000 in
theorem tX0_swru (l : Launch) (D : va_G) (d : Nat → ClassId) (z : ZT) (b : Nat → Nat) (fl : Option Nat) (K : Nat) (μ : XS) (r : Int32) (μ' : XS) (hf : fX0_swru K μ = some (r, μ')) : CI l yX0_swr (ws_ yX0_swr cX0_swr 1 (Option.some Jvm.ClassFile.FieldType.int)) (rmc 1 0 0 20) D d z [.ref (b 0)] (XU d z b fl μ) r (XU d z b fl μ') := by
  refine CI.of2 (own := RX0) rfl (by decide) (Nat.le_of_ble_eq_true rfl) rfl ?_
  intro p e s m args below meth c A Q ls S hin hK hP hD hZ hS hA hl hret0
  have hret : ∀ (x : Int32) (μx : XS) (H : Heap) (locs : List Loc) (pc : Nat) (ls' : Array Slot), some (x, μx) = some (r, μ') → decode cX0_swr pc = .ok (.ireturn, 1) → va_P D CL (XU d z b fl μx) H → va_D A (XU d z b fl μx) → va_S A s.heap H locs → W p l e (rmc 1 0 0 20) s m args below meth c H locs 0 0 Q (F0 m pc ls' [.int x]) := by
    intro x μx H locs pc ls' h9 hdg hP hD hS
    obtain ⟨rfl, rfl⟩ := so_2 h9
    exact hret0 H locs pc ls' hdg hP hD hS
  have hx := S.1
  have hb := S.2.1
  have hts := S.2.2.2.2
  have hl : lv_has ls 1 [(0, .ref (b 0))] := hl
  unfold fX0_swru at hf
  refine lv_aload_n hx hb dX0_swr_0 rfl (lv_at hl 0 rfl) ?_
  obtain ⟨r_2, ξ_3, h_1, hf⟩ := b2_some hf
  refine runW_i (va_runV (As := []) (rest := []) S (tX0_isReadyu l D d z b fl K μ r_2 ξ_3 h_1 _) (cwV 0 hts (lw_V q857 q859 qs18 q94 q860) rfl rfl rfl (by decide +kernel) ⟨(Nat.le_of_ble_eq_true rfl), (Nat.le_of_ble_eq_true rfl)⟩) ⟨Pw.blind, (va_recv hK.1 hP (ci := 1) (q0 := 0) rfl rfl), fun U hU hW => Pw.at hK hP hD hZ hS hA hU hW⟩ rfl rfl hl.1 rfl (lv_room (Nat.le_of_ble_eq_true rfl)) dX0_swr_1 ⟨(Nat.le_of_ble_eq_true rfl), (Nat.le_of_ble_eq_true rfl)⟩) hP hD hS hA ?_
  clear hP hD hS
  intro H locs hP hD hS
  clear h_1
  refine lv_if_eq (tgt := 17) hx hb dX0_swr_4 (by decide) (fun c_4 => ?_) (fun c_4 => ?_)
  · replace hf := it_f hf (bi_e0 c_4)
    clear c_4
    refine lv_iconst (v := -1) hx hb dX0_swr_17 (by decide) ?_
    refine W.widen (k := 0) (n := 0) (Nat.le_of_ble_eq_true rfl) (Nat.le_of_ble_eq_true rfl) ?_
    exact hret _ _ _ _ _ _ hf dX0_swr_18 hP hD hS
  · replace hf := it_t hf (bi_n0 c_4)
    clear c_4
    cases hf
def fX0_swrAtu (K : Nat) (p0 : Int32) (μ : XS) : Option (Int32 × XS) :=
  b2 (fX0_isReadyu K μ) fun r_2 ξ_3 =>
  if r_2 = true then
    b1 (fX0_isFrequency K p0) fun r_5 =>
    if r_5 = true then
      none
    else
      some ((-1 : Int32), ξ_3)
  else
    some ((-1 : Int32), ξ_3)
set_option maxHeartbeats 4000000 in
set_option maxRecDepth 100000 in
theorem tX0_swrAtu (l : Launch) (D : va_G) (d : Nat → ClassId) (z : ZT) (b : Nat → Nat) (fl : Option Nat) (K : Nat) (p0 : Int32) (μ : XS) (r : Int32) (μ' : XS) (hf : fX0_swrAtu K p0 μ = some (r, μ')) : CI l yX0_swrAt (ws_ yX0_swrAt cX0_swrAt 2 (Option.some Jvm.ClassFile.FieldType.int)) (rmc 2 0 0 42) D d z [.ref (b 0), .int p0] (XU d z b fl μ) r (XU d z b fl μ') := by
  refine CI.of2 (own := RX0) rfl (by decide) (Nat.le_of_ble_eq_true rfl) rfl ?_
  intro p e s m args below meth c A Q ls S hin hK hP hD hZ hS hA hl hret0
  have hret : ∀ (x : Int32) (μx : XS) (H : Heap) (locs : List Loc) (pc : Nat) (ls' : Array Slot), some (x, μx) = some (r, μ') → decode cX0_swrAt pc = .ok (.ireturn, 1) → va_P D CL (XU d z b fl μx) H → va_D A (XU d z b fl μx) → va_S A s.heap H locs → W p l e (rmc 2 0 0 42) s m args below meth c H locs 0 0 Q (F0 m pc ls' [.int x]) := by
    intro x μx H locs pc ls' h9 hdg hP hD hS
    obtain ⟨rfl, rfl⟩ := so_2 h9
    exact hret0 H locs pc ls' hdg hP hD hS
  have hx := S.1
  have hb := S.2.1
  have hts := S.2.2.2.2
  have hl : lv_has ls 2 [(0, .ref (b 0)), (1, .int p0)] := hl
  unfold fX0_swrAtu at hf
  refine lv_aload_n hx hb dX0_swrAt_0 rfl (lv_at hl 0 rfl) ?_
  obtain ⟨r_2, ξ_3, h_1, hf⟩ := b2_some hf
  refine runW_i (va_runV (As := []) (rest := []) S (tX0_isReadyu l D d z b fl K μ r_2 ξ_3 h_1 _) (cwV 0 hts (lw_V q857 q859 qs18 q94 q860) rfl rfl rfl (by decide +kernel) ⟨(Nat.le_of_ble_eq_true rfl), (Nat.le_of_ble_eq_true rfl)⟩) ⟨Pw.blind, (va_recv hK.1 hP (ci := 1) (q0 := 0) rfl rfl), fun U hU hW => Pw.at hK hP hD hZ hS hA hU hW⟩ rfl rfl hl.1 rfl (lv_room (Nat.le_of_ble_eq_true rfl)) dX0_swrAt_1 ⟨(Nat.le_of_ble_eq_true rfl), (Nat.le_of_ble_eq_true rfl)⟩) hP hD hS hA ?_
  clear hP hD hS
  intro H locs hP hD hS
  clear h_1
  refine lv_if_eq (tgt := 22) hx hb dX0_swrAt_4 (by decide) (fun c_4 => ?_) (fun c_4 => ?_)
  · replace hf := it_f hf (bi_e0 c_4)
    clear c_4
    refine lv_iconst (v := -1) hx hb dX0_swrAt_22 (by decide) ?_
    refine W.widen (k := 0) (n := 0) (Nat.le_of_ble_eq_true rfl) (Nat.le_of_ble_eq_true rfl) ?_
    exact hret _ _ _ _ _ _ hf dX0_swrAt_23 hP hD hS
  · replace hf := it_t hf (bi_n0 c_4)
    clear c_4
    refine lv_iload_n hx hb dX0_swrAt_7 rfl (lv_at hl 1 rfl) ?_
    obtain ⟨r_5, h_6, hf⟩ := b1_some hf
    refine si_call S (tX0_isFrequency l K p0 _ h_6) (va_cwS 1 hts (lw_S q861 q862 q94 q863) rfl rfl rfl (by decide +kernel) ⟨(Nat.le_of_ble_eq_true rfl), (Nat.le_of_ble_eq_true rfl)⟩) rfl hl.1 rfl (Nat.le_of_ble_eq_true rfl) ⟨(Nat.le_of_ble_eq_true rfl), (Nat.le_of_ble_eq_true rfl)⟩ dX0_swrAt_8 ?_
    clear h_6
    refine lv_if_eq (tgt := 22) hx hb dX0_swrAt_11 (by decide) (fun c_7 => ?_) (fun c_7 => ?_)
    · replace hf := it_f hf (bi_e0 c_7)
      clear c_7
      refine lv_iconst (v := -1) hx hb dX0_swrAt_22 (by decide) ?_
      refine W.widen (k := 0) (n := 0) (Nat.le_of_ble_eq_true rfl) (Nat.le_of_ble_eq_true rfl) ?_
      exact hret _ _ _ _ _ _ hf dX0_swrAt_23 hP hD hS
    · replace hf := it_t hf (bi_n0 c_7)
      clear c_7
      cases hf
def fX0_efficiencyu (K : Nat) (μ : XS) : Option (Int32 × XS) :=
  b2 (fX0_isReadyu K μ) fun r_2 ξ_3 =>
  if r_2 = true then
    none
  else
    some ((-1 : Int32), ξ_3)
set_option maxHeartbeats 4000000 in
set_option maxRecDepth 100000 in
theorem tX0_efficiencyu (l : Launch) (D : va_G) (d : Nat → ClassId) (z : ZT) (b : Nat → Nat) (fl : Option Nat) (K : Nat) (μ : XS) (r : Int32) (μ' : XS) (hf : fX0_efficiencyu K μ = some (r, μ')) : CI l yX0_efficiency (ws_ yX0_efficiency cX0_efficiency 1 (Option.some Jvm.ClassFile.FieldType.int)) (rmc 1 0 0 20) D d z [.ref (b 0)] (XU d z b fl μ) r (XU d z b fl μ') := by
  refine CI.of2 (own := RX0) rfl (by decide) (Nat.le_of_ble_eq_true rfl) rfl ?_
  intro p e s m args below meth c A Q ls S hin hK hP hD hZ hS hA hl hret0
  have hret : ∀ (x : Int32) (μx : XS) (H : Heap) (locs : List Loc) (pc : Nat) (ls' : Array Slot), some (x, μx) = some (r, μ') → decode cX0_efficiency pc = .ok (.ireturn, 1) → va_P D CL (XU d z b fl μx) H → va_D A (XU d z b fl μx) → va_S A s.heap H locs → W p l e (rmc 1 0 0 20) s m args below meth c H locs 0 0 Q (F0 m pc ls' [.int x]) := by
    intro x μx H locs pc ls' h9 hdg hP hD hS
    obtain ⟨rfl, rfl⟩ := so_2 h9
    exact hret0 H locs pc ls' hdg hP hD hS
  have hx := S.1
  have hb := S.2.1
  have hts := S.2.2.2.2
  have hl : lv_has ls 1 [(0, .ref (b 0))] := hl
  unfold fX0_efficiencyu at hf
  refine lv_aload_n hx hb dX0_efficiency_0 rfl (lv_at hl 0 rfl) ?_
  obtain ⟨r_2, ξ_3, h_1, hf⟩ := b2_some hf
  refine runW_i (va_runV (As := []) (rest := []) S (tX0_isReadyu l D d z b fl K μ r_2 ξ_3 h_1 _) (cwV 0 hts (lw_V q857 q859 qs18 q94 q860) rfl rfl rfl (by decide +kernel) ⟨(Nat.le_of_ble_eq_true rfl), (Nat.le_of_ble_eq_true rfl)⟩) ⟨Pw.blind, (va_recv hK.1 hP (ci := 1) (q0 := 0) rfl rfl), fun U hU hW => Pw.at hK hP hD hZ hS hA hU hW⟩ rfl rfl hl.1 rfl (lv_room (Nat.le_of_ble_eq_true rfl)) dX0_efficiency_1 ⟨(Nat.le_of_ble_eq_true rfl), (Nat.le_of_ble_eq_true rfl)⟩) hP hD hS hA ?_
  clear hP hD hS
  intro H locs hP hD hS
  clear h_1
  refine lv_if_eq (tgt := 17) hx hb dX0_efficiency_4 (by decide) (fun c_4 => ?_) (fun c_4 => ?_)
  · replace hf := it_f hf (bi_e0 c_4)
    clear c_4
    refine lv_iconst (v := -1) hx hb dX0_efficiency_17 (by decide) ?_
    refine W.widen (k := 0) (n := 0) (Nat.le_of_ble_eq_true rfl) (Nat.le_of_ble_eq_true rfl) ?_
    exact hret _ _ _ _ _ _ hf dX0_efficiency_18 hP hD hS
  · replace hf := it_t hf (bi_n0 c_4)
    clear c_4
    cases hf
def fX0_capacitorVoltageu (K : Nat) (μ : XS) : Option (Int32 × XS) :=
  b2 (fX0_isReadyu K μ) fun r_2 ξ_3 =>
  if r_2 = true then
    none
  else
    some ((-1 : Int32), ξ_3)
set_option maxHeartbeats 4000000 in
set_option maxRecDepth 100000 in
theorem tX0_capacitorVoltageu (l : Launch) (D : va_G) (d : Nat → ClassId) (z : ZT) (b : Nat → Nat) (fl : Option Nat) (K : Nat) (μ : XS) (r : Int32) (μ' : XS) (hf : fX0_capacitorVoltageu K μ = some (r, μ')) : CI l yX0_capacitorVoltage (ws_ yX0_capacitorVoltage cX0_capacitorVoltage 1 (Option.some Jvm.ClassFile.FieldType.int)) (rmc 1 0 0 20) D d z [.ref (b 0)] (XU d z b fl μ) r (XU d z b fl μ') := by
  refine CI.of2 (own := RX0) rfl (by decide) (Nat.le_of_ble_eq_true rfl) rfl ?_
  intro p e s m args below meth c A Q ls S hin hK hP hD hZ hS hA hl hret0
  have hret : ∀ (x : Int32) (μx : XS) (H : Heap) (locs : List Loc) (pc : Nat) (ls' : Array Slot), some (x, μx) = some (r, μ') → decode cX0_capacitorVoltage pc = .ok (.ireturn, 1) → va_P D CL (XU d z b fl μx) H → va_D A (XU d z b fl μx) → va_S A s.heap H locs → W p l e (rmc 1 0 0 20) s m args below meth c H locs 0 0 Q (F0 m pc ls' [.int x]) := by
    intro x μx H locs pc ls' h9 hdg hP hD hS
    obtain ⟨rfl, rfl⟩ := so_2 h9
    exact hret0 H locs pc ls' hdg hP hD hS
  have hx := S.1
  have hb := S.2.1
  have hts := S.2.2.2.2
  have hl : lv_has ls 1 [(0, .ref (b 0))] := hl
  unfold fX0_capacitorVoltageu at hf
  refine lv_aload_n hx hb dX0_capacitorVoltage_0 rfl (lv_at hl 0 rfl) ?_
  obtain ⟨r_2, ξ_3, h_1, hf⟩ := b2_some hf
  refine runW_i (va_runV (As := []) (rest := []) S (tX0_isReadyu l D d z b fl K μ r_2 ξ_3 h_1 _) (cwV 0 hts (lw_V q857 q859 qs18 q94 q860) rfl rfl rfl (by decide +kernel) ⟨(Nat.le_of_ble_eq_true rfl), (Nat.le_of_ble_eq_true rfl)⟩) ⟨Pw.blind, (va_recv hK.1 hP (ci := 1) (q0 := 0) rfl rfl), fun U hU hW => Pw.at hK hP hD hZ hS hA hU hW⟩ rfl rfl hl.1 rfl (lv_room (Nat.le_of_ble_eq_true rfl)) dX0_capacitorVoltage_1 ⟨(Nat.le_of_ble_eq_true rfl), (Nat.le_of_ble_eq_true rfl)⟩) hP hD hS hA ?_
  clear hP hD hS
  intro H locs hP hD hS
  clear h_1
  refine lv_if_eq (tgt := 17) hx hb dX0_capacitorVoltage_4 (by decide) (fun c_4 => ?_) (fun c_4 => ?_)
  · replace hf := it_f hf (bi_e0 c_4)
    clear c_4
    refine lv_iconst (v := -1) hx hb dX0_capacitorVoltage_17 (by decide) ?_
    refine W.widen (k := 0) (n := 0) (Nat.le_of_ble_eq_true rfl) (Nat.le_of_ble_eq_true rfl) ?_
    exact hret _ _ _ _ _ _ hf dX0_capacitorVoltage_18 hP hD hS
  · replace hf := it_t hf (bi_n0 c_4)
    clear c_4
    cases hf
def fX0_greatestPoweru (K : Nat) (μ : XS) : Option (Int32 × XS) :=
  b2 (fX0_isReadyu K μ) fun r_2 ξ_3 =>
  if r_2 = true then
    none
  else
    some ((-1 : Int32), ξ_3)
set_option maxHeartbeats 4000000 in
set_option maxRecDepth 100000 in
theorem tX0_greatestPoweru (l : Launch) (D : va_G) (d : Nat → ClassId) (z : ZT) (b : Nat → Nat) (fl : Option Nat) (K : Nat) (μ : XS) (r : Int32) (μ' : XS) (hf : fX0_greatestPoweru K μ = some (r, μ')) : CI l yX0_greatestPower (ws_ yX0_greatestPower cX0_greatestPower 2 (Option.some Jvm.ClassFile.FieldType.int)) (rmc 1 0 0 20) D d z [.ref (b 0)] (XU d z b fl μ) r (XU d z b fl μ') := by
  refine CI.of2 (own := RX0) rfl (by decide) (Nat.le_of_ble_eq_true rfl) rfl ?_
  intro p e s m args below meth c A Q ls S hin hK hP hD hZ hS hA hl hret0
  have hret : ∀ (x : Int32) (μx : XS) (H : Heap) (locs : List Loc) (pc : Nat) (ls' : Array Slot), some (x, μx) = some (r, μ') → decode cX0_greatestPower pc = .ok (.ireturn, 1) → va_P D CL (XU d z b fl μx) H → va_D A (XU d z b fl μx) → va_S A s.heap H locs → W p l e (rmc 1 0 0 20) s m args below meth c H locs 0 0 Q (F0 m pc ls' [.int x]) := by
    intro x μx H locs pc ls' h9 hdg hP hD hS
    obtain ⟨rfl, rfl⟩ := so_2 h9
    exact hret0 H locs pc ls' hdg hP hD hS
  have hx := S.1
  have hb := S.2.1
  have hts := S.2.2.2.2
  have hl : lv_has ls 2 [(0, .ref (b 0))] := hl
  unfold fX0_greatestPoweru at hf
  refine lv_aload_n hx hb dX0_greatestPower_0 rfl (lv_at hl 0 rfl) ?_
  obtain ⟨r_2, ξ_3, h_1, hf⟩ := b2_some hf
  refine runW_i (va_runV (As := []) (rest := []) S (tX0_isReadyu l D d z b fl K μ r_2 ξ_3 h_1 _) (cwV 0 hts (lw_V q857 q859 qs18 q94 q860) rfl rfl rfl (by decide +kernel) ⟨(Nat.le_of_ble_eq_true rfl), (Nat.le_of_ble_eq_true rfl)⟩) ⟨Pw.blind, (va_recv hK.1 hP (ci := 1) (q0 := 0) rfl rfl), fun U hU hW => Pw.at hK hP hD hZ hS hA hU hW⟩ rfl rfl hl.1 rfl (lv_room (Nat.le_of_ble_eq_true rfl)) dX0_greatestPower_1 ⟨(Nat.le_of_ble_eq_true rfl), (Nat.le_of_ble_eq_true rfl)⟩) hP hD hS hA ?_
  clear hP hD hS
  intro H locs hP hD hS
  clear h_1
  refine lv_if_ne (tgt := 9) hx hb dX0_greatestPower_4 (by decide) (fun c_4 => ?_) (fun c_4 => ?_)
  · replace hf := it_t hf (bi_n0 c_4)
    clear c_4
    cases hf
  · replace hf := it_f hf (bi_e0 c_4)
    clear c_4
    refine lv_iconst (v := -1) hx hb dX0_greatestPower_7 (by decide) ?_
    refine W.widen (k := 0) (n := 0) (Nat.le_of_ble_eq_true rfl) (Nat.le_of_ble_eq_true rfl) ?_
    exact hret _ _ _ _ _ _ hf dX0_greatestPower_8 hP hD hS
def fX0_highestMatchedu (K : Nat) (μ : XS) : Option (Int32 × XS) :=
  b2 (fX0_isReadyu K μ) fun r_2 ξ_3 =>
  if r_2 = true then
    none
  else
    some ((-1 : Int32), ξ_3)
set_option maxHeartbeats 4000000 in
set_option maxRecDepth 100000 in
theorem tX0_highestMatchedu (l : Launch) (D : va_G) (d : Nat → ClassId) (z : ZT) (b : Nat → Nat) (fl : Option Nat) (K : Nat) (μ : XS) (r : Int32) (μ' : XS) (hf : fX0_highestMatchedu K μ = some (r, μ')) : CI l yX0_highestMatched (ws_ yX0_highestMatched cX0_highestMatched 1 (Option.some Jvm.ClassFile.FieldType.int)) (rmc 1 0 0 20) D d z [.ref (b 0)] (XU d z b fl μ) r (XU d z b fl μ') := by
  refine CI.of2 (own := RX0) rfl (by decide) (Nat.le_of_ble_eq_true rfl) rfl ?_
  intro p e s m args below meth c A Q ls S hin hK hP hD hZ hS hA hl hret0
  have hret : ∀ (x : Int32) (μx : XS) (H : Heap) (locs : List Loc) (pc : Nat) (ls' : Array Slot), some (x, μx) = some (r, μ') → decode cX0_highestMatched pc = .ok (.ireturn, 1) → va_P D CL (XU d z b fl μx) H → va_D A (XU d z b fl μx) → va_S A s.heap H locs → W p l e (rmc 1 0 0 20) s m args below meth c H locs 0 0 Q (F0 m pc ls' [.int x]) := by
    intro x μx H locs pc ls' h9 hdg hP hD hS
    obtain ⟨rfl, rfl⟩ := so_2 h9
    exact hret0 H locs pc ls' hdg hP hD hS
  have hx := S.1
  have hb := S.2.1
  have hts := S.2.2.2.2
  have hl : lv_has ls 1 [(0, .ref (b 0))] := hl
  unfold fX0_highestMatchedu at hf
  refine lv_aload_n hx hb dX0_highestMatched_0 rfl (lv_at hl 0 rfl) ?_
  obtain ⟨r_2, ξ_3, h_1, hf⟩ := b2_some hf
  refine runW_i (va_runV (As := []) (rest := []) S (tX0_isReadyu l D d z b fl K μ r_2 ξ_3 h_1 _) (cwV 0 hts (lw_V q857 q859 qs18 q94 q860) rfl rfl rfl (by decide +kernel) ⟨(Nat.le_of_ble_eq_true rfl), (Nat.le_of_ble_eq_true rfl)⟩) ⟨Pw.blind, (va_recv hK.1 hP (ci := 1) (q0 := 0) rfl rfl), fun U hU hW => Pw.at hK hP hD hZ hS hA hU hW⟩ rfl rfl hl.1 rfl (lv_room (Nat.le_of_ble_eq_true rfl)) dX0_highestMatched_1 ⟨(Nat.le_of_ble_eq_true rfl), (Nat.le_of_ble_eq_true rfl)⟩) hP hD hS hA ?_
  clear hP hD hS
  intro H locs hP hD hS
  clear h_1
  refine lv_if_eq (tgt := 16) hx hb dX0_highestMatched_4 (by decide) (fun c_4 => ?_) (fun c_4 => ?_)
  · replace hf := it_f hf (bi_e0 c_4)
    clear c_4
    refine lv_iconst (v := -1) hx hb dX0_highestMatched_16 (by decide) ?_
    refine W.widen (k := 0) (n := 0) (Nat.le_of_ble_eq_true rfl) (Nat.le_of_ble_eq_true rfl) ?_
    exact hret _ _ _ _ _ _ hf dX0_highestMatched_17 hP hD hS
  · replace hf := it_t hf (bi_n0 c_4)
    clear c_4
    cases hf
def fX0_lowestMatchedu (K : Nat) (μ : XS) : Option (Int32 × XS) :=
  b2 (fX0_isReadyu K μ) fun r_2 ξ_3 =>
  if r_2 = true then
    none
  else
    some ((-1 : Int32), ξ_3)
set_option maxHeartbeats 4000000 in
set_option maxRecDepth 100000 in
theorem tX0_lowestMatchedu (l : Launch) (D : va_G) (d : Nat → ClassId) (z : ZT) (b : Nat → Nat) (fl : Option Nat) (K : Nat) (μ : XS) (r : Int32) (μ' : XS) (hf : fX0_lowestMatchedu K μ = some (r, μ')) : CI l yX0_lowestMatched (ws_ yX0_lowestMatched cX0_lowestMatched 1 (Option.some Jvm.ClassFile.FieldType.int)) (rmc 1 0 0 20) D d z [.ref (b 0)] (XU d z b fl μ) r (XU d z b fl μ') := by
  refine CI.of2 (own := RX0) rfl (by decide) (Nat.le_of_ble_eq_true rfl) rfl ?_
  intro p e s m args below meth c A Q ls S hin hK hP hD hZ hS hA hl hret0
  have hret : ∀ (x : Int32) (μx : XS) (H : Heap) (locs : List Loc) (pc : Nat) (ls' : Array Slot), some (x, μx) = some (r, μ') → decode cX0_lowestMatched pc = .ok (.ireturn, 1) → va_P D CL (XU d z b fl μx) H → va_D A (XU d z b fl μx) → va_S A s.heap H locs → W p l e (rmc 1 0 0 20) s m args below meth c H locs 0 0 Q (F0 m pc ls' [.int x]) := by
    intro x μx H locs pc ls' h9 hdg hP hD hS
    obtain ⟨rfl, rfl⟩ := so_2 h9
    exact hret0 H locs pc ls' hdg hP hD hS
  have hx := S.1
  have hb := S.2.1
  have hts := S.2.2.2.2
  have hl : lv_has ls 1 [(0, .ref (b 0))] := hl
  unfold fX0_lowestMatchedu at hf
  refine lv_aload_n hx hb dX0_lowestMatched_0 rfl (lv_at hl 0 rfl) ?_
  obtain ⟨r_2, ξ_3, h_1, hf⟩ := b2_some hf
  refine runW_i (va_runV (As := []) (rest := []) S (tX0_isReadyu l D d z b fl K μ r_2 ξ_3 h_1 _) (cwV 0 hts (lw_V q857 q859 qs18 q94 q860) rfl rfl rfl (by decide +kernel) ⟨(Nat.le_of_ble_eq_true rfl), (Nat.le_of_ble_eq_true rfl)⟩) ⟨Pw.blind, (va_recv hK.1 hP (ci := 1) (q0 := 0) rfl rfl), fun U hU hW => Pw.at hK hP hD hZ hS hA hU hW⟩ rfl rfl hl.1 rfl (lv_room (Nat.le_of_ble_eq_true rfl)) dX0_lowestMatched_1 ⟨(Nat.le_of_ble_eq_true rfl), (Nat.le_of_ble_eq_true rfl)⟩) hP hD hS hA ?_
  clear hP hD hS
  intro H locs hP hD hS
  clear h_1
  refine lv_if_eq (tgt := 16) hx hb dX0_lowestMatched_4 (by decide) (fun c_4 => ?_) (fun c_4 => ?_)
  · replace hf := it_f hf (bi_e0 c_4)
    clear c_4
    refine lv_iconst (v := -1) hx hb dX0_lowestMatched_16 (by decide) ?_
    refine W.widen (k := 0) (n := 0) (Nat.le_of_ble_eq_true rfl) (Nat.le_of_ble_eq_true rfl) ?_
    exact hret _ _ _ _ _ _ hf dX0_lowestMatched_17 hP hD hS
  · replace hf := it_t hf (bi_n0 c_4)
    clear c_4
    cases hf
def fX0_worstInBandu (K : Nat) (p0 : Int32) (μ : XS) : Option (Int32 × XS) :=
  b2 (fX0_isReadyu K μ) fun r_2 ξ_3 =>
  if r_2 = true then
    none
  else
    some ((-1 : Int32), ξ_3)
set_option maxHeartbeats 4000000 in
set_option maxRecDepth 100000 in
theorem tX0_worstInBandu (l : Launch) (D : va_G) (d : Nat → ClassId) (z : ZT) (b : Nat → Nat) (fl : Option Nat) (K : Nat) (p0 : Int32) (μ : XS) (r : Int32) (μ' : XS) (hf : fX0_worstInBandu K p0 μ = some (r, μ')) : CI l yX0_worstInBand (ws_ yX0_worstInBand cX0_worstInBand 6 (Option.some Jvm.ClassFile.FieldType.int)) (rmc 1 0 0 20) D d z [.ref (b 0), .int p0] (XU d z b fl μ) r (XU d z b fl μ') := by
  refine CI.of2 (own := RX0) rfl (by decide) (Nat.le_of_ble_eq_true rfl) rfl ?_
  intro p e s m args below meth c A Q ls S hin hK hP hD hZ hS hA hl hret0
  have hret : ∀ (x : Int32) (μx : XS) (H : Heap) (locs : List Loc) (pc : Nat) (ls' : Array Slot), some (x, μx) = some (r, μ') → decode cX0_worstInBand pc = .ok (.ireturn, 1) → va_P D CL (XU d z b fl μx) H → va_D A (XU d z b fl μx) → va_S A s.heap H locs → W p l e (rmc 1 0 0 20) s m args below meth c H locs 0 0 Q (F0 m pc ls' [.int x]) := by
    intro x μx H locs pc ls' h9 hdg hP hD hS
    obtain ⟨rfl, rfl⟩ := so_2 h9
    exact hret0 H locs pc ls' hdg hP hD hS
  have hx := S.1
  have hb := S.2.1
  have hts := S.2.2.2.2
  have hl : lv_has ls 6 [(0, .ref (b 0)), (1, .int p0)] := hl
  unfold fX0_worstInBandu at hf
  refine lv_aload_n hx hb dX0_worstInBand_0 rfl (lv_at hl 0 rfl) ?_
  obtain ⟨r_2, ξ_3, h_1, hf⟩ := b2_some hf
  refine runW_i (va_runV (As := []) (rest := []) S (tX0_isReadyu l D d z b fl K μ r_2 ξ_3 h_1 _) (cwV 0 hts (lw_V q857 q859 qs18 q94 q860) rfl rfl rfl (by decide +kernel) ⟨(Nat.le_of_ble_eq_true rfl), (Nat.le_of_ble_eq_true rfl)⟩) ⟨Pw.blind, (va_recv hK.1 hP (ci := 1) (q0 := 0) rfl rfl), fun U hU hW => Pw.at hK hP hD hZ hS hA hU hW⟩ rfl rfl hl.1 rfl (lv_room (Nat.le_of_ble_eq_true rfl)) dX0_worstInBand_1 ⟨(Nat.le_of_ble_eq_true rfl), (Nat.le_of_ble_eq_true rfl)⟩) hP hD hS hA ?_
  clear hP hD hS
  intro H locs hP hD hS
  clear h_1
  refine lv_if_eq (tgt := 24) hx hb dX0_worstInBand_4 (by decide) (fun c_4 => ?_) (fun c_4 => ?_)
  · replace hf := it_f hf (bi_e0 c_4)
    clear c_4
    refine lv_iconst (v := -1) hx hb dX0_worstInBand_24 (by decide) ?_
    refine W.widen (k := 0) (n := 0) (Nat.le_of_ble_eq_true rfl) (Nat.le_of_ble_eq_true rfl) ?_
    exact hret _ _ _ _ _ _ hf dX0_worstInBand_25 hP hD hS
  · replace hf := it_t hf (bi_n0 c_4)
    clear c_4
    cases hf
def fX0_readingCountu (K : Nat) (μ : XS) : Option (Int32 × XS) :=
  b2 (fX0_isReadyu K μ) fun r_2 ξ_3 =>
  if r_2 = true then
    none
  else
    some ((-1 : Int32), ξ_3)
set_option maxHeartbeats 4000000 in
set_option maxRecDepth 100000 in
theorem tX0_readingCountu (l : Launch) (D : va_G) (d : Nat → ClassId) (z : ZT) (b : Nat → Nat) (fl : Option Nat) (K : Nat) (μ : XS) (r : Int32) (μ' : XS) (hf : fX0_readingCountu K μ = some (r, μ')) : CI l yX0_readingCount (ws_ yX0_readingCount cX0_readingCount 1 (Option.some Jvm.ClassFile.FieldType.int)) (rmc 1 0 0 20) D d z [.ref (b 0)] (XU d z b fl μ) r (XU d z b fl μ') := by
  refine CI.of2 (own := RX0) rfl (by decide) (Nat.le_of_ble_eq_true rfl) rfl ?_
  intro p e s m args below meth c A Q ls S hin hK hP hD hZ hS hA hl hret0
  have hret : ∀ (x : Int32) (μx : XS) (H : Heap) (locs : List Loc) (pc : Nat) (ls' : Array Slot), some (x, μx) = some (r, μ') → decode cX0_readingCount pc = .ok (.ireturn, 1) → va_P D CL (XU d z b fl μx) H → va_D A (XU d z b fl μx) → va_S A s.heap H locs → W p l e (rmc 1 0 0 20) s m args below meth c H locs 0 0 Q (F0 m pc ls' [.int x]) := by
    intro x μx H locs pc ls' h9 hdg hP hD hS
    obtain ⟨rfl, rfl⟩ := so_2 h9
    exact hret0 H locs pc ls' hdg hP hD hS
  have hx := S.1
  have hb := S.2.1
  have hts := S.2.2.2.2
  have hl : lv_has ls 1 [(0, .ref (b 0))] := hl
  unfold fX0_readingCountu at hf
  refine lv_aload_n hx hb dX0_readingCount_0 rfl (lv_at hl 0 rfl) ?_
  obtain ⟨r_2, ξ_3, h_1, hf⟩ := b2_some hf
  refine runW_i (va_runV (As := []) (rest := []) S (tX0_isReadyu l D d z b fl K μ r_2 ξ_3 h_1 _) (cwV 0 hts (lw_V q857 q859 qs18 q94 q860) rfl rfl rfl (by decide +kernel) ⟨(Nat.le_of_ble_eq_true rfl), (Nat.le_of_ble_eq_true rfl)⟩) ⟨Pw.blind, (va_recv hK.1 hP (ci := 1) (q0 := 0) rfl rfl), fun U hU hW => Pw.at hK hP hD hZ hS hA hU hW⟩ rfl rfl hl.1 rfl (lv_room (Nat.le_of_ble_eq_true rfl)) dX0_readingCount_1 ⟨(Nat.le_of_ble_eq_true rfl), (Nat.le_of_ble_eq_true rfl)⟩) hP hD hS hA ?_
  clear hP hD hS
  intro H locs hP hD hS
  clear h_1
  refine lv_if_eq (tgt := 17) hx hb dX0_readingCount_4 (by decide) (fun c_4 => ?_) (fun c_4 => ?_)
  · replace hf := it_f hf (bi_e0 c_4)
    clear c_4
    refine lv_iconst (v := -1) hx hb dX0_readingCount_17 (by decide) ?_
    refine W.widen (k := 0) (n := 0) (Nat.le_of_ble_eq_true rfl) (Nat.le_of_ble_eq_true rfl) ?_
    exact hret _ _ _ _ _ _ hf dX0_readingCount_18 hP hD hS
  · replace hf := it_t hf (bi_n0 c_4)
    clear c_4
    cases hf
def fX0_readingu (K : Nat) (p0 : Int32) (μ : XS) : Option (Int32 × XS) :=
  b2 (fX0_isReadyu K μ) fun r_2 ξ_3 =>
  if r_2 = true then
    none
  else
    some ((-1 : Int32), ξ_3)
set_option maxHeartbeats 4000000 in
set_option maxRecDepth 100000 in
theorem tX0_readingu (l : Launch) (D : va_G) (d : Nat → ClassId) (z : ZT) (b : Nat → Nat) (fl : Option Nat) (K : Nat) (p0 : Int32) (μ : XS) (r : Int32) (μ' : XS) (hf : fX0_readingu K p0 μ = some (r, μ')) : CI l yX0_reading (ws_ yX0_reading cX0_reading 2 (Option.some Jvm.ClassFile.FieldType.int)) (rmc 1 0 0 20) D d z [.ref (b 0), .int p0] (XU d z b fl μ) r (XU d z b fl μ') := by
  refine CI.of2 (own := RX0) rfl (by decide) (Nat.le_of_ble_eq_true rfl) rfl ?_
  intro p e s m args below meth c A Q ls S hin hK hP hD hZ hS hA hl hret0
  have hret : ∀ (x : Int32) (μx : XS) (H : Heap) (locs : List Loc) (pc : Nat) (ls' : Array Slot), some (x, μx) = some (r, μ') → decode cX0_reading pc = .ok (.ireturn, 1) → va_P D CL (XU d z b fl μx) H → va_D A (XU d z b fl μx) → va_S A s.heap H locs → W p l e (rmc 1 0 0 20) s m args below meth c H locs 0 0 Q (F0 m pc ls' [.int x]) := by
    intro x μx H locs pc ls' h9 hdg hP hD hS
    obtain ⟨rfl, rfl⟩ := so_2 h9
    exact hret0 H locs pc ls' hdg hP hD hS
  have hx := S.1
  have hb := S.2.1
  have hts := S.2.2.2.2
  have hl : lv_has ls 2 [(0, .ref (b 0)), (1, .int p0)] := hl
  unfold fX0_readingu at hf
  refine lv_aload_n hx hb dX0_reading_0 rfl (lv_at hl 0 rfl) ?_
  obtain ⟨r_2, ξ_3, h_1, hf⟩ := b2_some hf
  refine runW_i (va_runV (As := []) (rest := []) S (tX0_isReadyu l D d z b fl K μ r_2 ξ_3 h_1 _) (cwV 0 hts (lw_V q857 q859 qs18 q94 q860) rfl rfl rfl (by decide +kernel) ⟨(Nat.le_of_ble_eq_true rfl), (Nat.le_of_ble_eq_true rfl)⟩) ⟨Pw.blind, (va_recv hK.1 hP (ci := 1) (q0 := 0) rfl rfl), fun U hU hW => Pw.at hK hP hD hZ hS hA hU hW⟩ rfl rfl hl.1 rfl (lv_room (Nat.le_of_ble_eq_true rfl)) dX0_reading_1 ⟨(Nat.le_of_ble_eq_true rfl), (Nat.le_of_ble_eq_true rfl)⟩) hP hD hS hA ?_
  clear hP hD hS
  intro H locs hP hD hS
  clear h_1
  refine lv_if_eq (tgt := 46) hx hb dX0_reading_4 (by decide) (fun c_4 => ?_) (fun c_4 => ?_)
  · replace hf := it_f hf (bi_e0 c_4)
    clear c_4
    refine lv_iconst (v := -1) hx hb dX0_reading_46 (by decide) ?_
    refine W.widen (k := 0) (n := 0) (Nat.le_of_ble_eq_true rfl) (Nat.le_of_ble_eq_true rfl) ?_
    exact hret _ _ _ _ _ _ hf dX0_reading_47 hP hD hS
  · replace hf := it_t hf (bi_n0 c_4)
    clear c_4
    cases hf
def fX0_heatu (K : Nat) (μ : XS) : Option (Int32 × XS) :=
  b2 (fX0_isReadyu K μ) fun r_2 ξ_3 =>
  if r_2 = true then
    none
  else
    some ((-1 : Int32), ξ_3)
set_option maxHeartbeats 4000000 in
set_option maxRecDepth 100000 in
theorem tX0_heatu (l : Launch) (D : va_G) (d : Nat → ClassId) (z : ZT) (b : Nat → Nat) (fl : Option Nat) (K : Nat) (μ : XS) (r : Int32) (μ' : XS) (hf : fX0_heatu K μ = some (r, μ')) : CI l yX0_heat (ws_ yX0_heat cX0_heat 1 (Option.some Jvm.ClassFile.FieldType.int)) (rmc 1 0 0 20) D d z [.ref (b 0)] (XU d z b fl μ) r (XU d z b fl μ') := by
  refine CI.of2 (own := RX0) rfl (by decide) (Nat.le_of_ble_eq_true rfl) rfl ?_
  intro p e s m args below meth c A Q ls S hin hK hP hD hZ hS hA hl hret0
  have hret : ∀ (x : Int32) (μx : XS) (H : Heap) (locs : List Loc) (pc : Nat) (ls' : Array Slot), some (x, μx) = some (r, μ') → decode cX0_heat pc = .ok (.ireturn, 1) → va_P D CL (XU d z b fl μx) H → va_D A (XU d z b fl μx) → va_S A s.heap H locs → W p l e (rmc 1 0 0 20) s m args below meth c H locs 0 0 Q (F0 m pc ls' [.int x]) := by
    intro x μx H locs pc ls' h9 hdg hP hD hS
    obtain ⟨rfl, rfl⟩ := so_2 h9
    exact hret0 H locs pc ls' hdg hP hD hS
  have hx := S.1
  have hb := S.2.1
  have hts := S.2.2.2.2
  have hl : lv_has ls 1 [(0, .ref (b 0))] := hl
  unfold fX0_heatu at hf
  refine lv_aload_n hx hb dX0_heat_0 rfl (lv_at hl 0 rfl) ?_
  obtain ⟨r_2, ξ_3, h_1, hf⟩ := b2_some hf
  refine runW_i (va_runV (As := []) (rest := []) S (tX0_isReadyu l D d z b fl K μ r_2 ξ_3 h_1 _) (cwV 0 hts (lw_V q857 q859 qs18 q94 q860) rfl rfl rfl (by decide +kernel) ⟨(Nat.le_of_ble_eq_true rfl), (Nat.le_of_ble_eq_true rfl)⟩) ⟨Pw.blind, (va_recv hK.1 hP (ci := 1) (q0 := 0) rfl rfl), fun U hU hW => Pw.at hK hP hD hZ hS hA hU hW⟩ rfl rfl hl.1 rfl (lv_room (Nat.le_of_ble_eq_true rfl)) dX0_heat_1 ⟨(Nat.le_of_ble_eq_true rfl), (Nat.le_of_ble_eq_true rfl)⟩) hP hD hS hA ?_
  clear hP hD hS
  intro H locs hP hD hS
  clear h_1
  refine lv_if_eq (tgt := 17) hx hb dX0_heat_4 (by decide) (fun c_4 => ?_) (fun c_4 => ?_)
  · replace hf := it_f hf (bi_e0 c_4)
    clear c_4
    refine lv_iconst (v := -1) hx hb dX0_heat_17 (by decide) ?_
    refine W.widen (k := 0) (n := 0) (Nat.le_of_ble_eq_true rfl) (Nat.le_of_ble_eq_true rfl) ?_
    exact hret _ _ _ _ _ _ hf dX0_heat_18 hP hD hS
  · replace hf := it_t hf (bi_n0 c_4)
    clear c_4
    cases hf
def fX0_arcsNoticedu (K : Nat) (p0 : Int32) (μ : XS) : Option (Int32 × XS) :=
  b2 (fX0_isReadyu K μ) fun r_2 ξ_3 =>
  if r_2 = true then
    b1 (fX0_isIn K p0 (11 : Int32) (100 : Int32)) fun r_5 =>
    if r_5 = true then
      none
    else
      some ((-1 : Int32), ξ_3)
  else
    some ((-1 : Int32), ξ_3)
set_option maxHeartbeats 4000000 in
set_option maxRecDepth 100000 in
theorem tX0_arcsNoticedu (l : Launch) (D : va_G) (d : Nat → ClassId) (z : ZT) (b : Nat → Nat) (fl : Option Nat) (K : Nat) (p0 : Int32) (μ : XS) (r : Int32) (μ' : XS) (hf : fX0_arcsNoticedu K p0 μ = some (r, μ')) : CI l yX0_arcsNoticed (ws_ yX0_arcsNoticed cX0_arcsNoticed 4 (Option.some Jvm.ClassFile.FieldType.int)) (rmc 1 0 0 22) D d z [.ref (b 0), .int p0] (XU d z b fl μ) r (XU d z b fl μ') := by
  refine CI.of2 (own := RX0) rfl (by decide) (Nat.le_of_ble_eq_true rfl) rfl ?_
  intro p e s m args below meth c A Q ls S hin hK hP hD hZ hS hA hl hret0
  have hret : ∀ (x : Int32) (μx : XS) (H : Heap) (locs : List Loc) (pc : Nat) (ls' : Array Slot), some (x, μx) = some (r, μ') → decode cX0_arcsNoticed pc = .ok (.ireturn, 1) → va_P D CL (XU d z b fl μx) H → va_D A (XU d z b fl μx) → va_S A s.heap H locs → W p l e (rmc 1 0 0 22) s m args below meth c H locs 0 0 Q (F0 m pc ls' [.int x]) := by
    intro x μx H locs pc ls' h9 hdg hP hD hS
    obtain ⟨rfl, rfl⟩ := so_2 h9
    exact hret0 H locs pc ls' hdg hP hD hS
  have hx := S.1
  have hb := S.2.1
  have hts := S.2.2.2.2
  have hl : lv_has ls 4 [(0, .ref (b 0)), (1, .int p0)] := hl
  unfold fX0_arcsNoticedu at hf
  refine lv_aload_n hx hb dX0_arcsNoticed_0 rfl (lv_at hl 0 rfl) ?_
  obtain ⟨r_2, ξ_3, h_1, hf⟩ := b2_some hf
  refine runW_i (va_runV (As := []) (rest := []) S (tX0_isReadyu l D d z b fl K μ r_2 ξ_3 h_1 _) (cwV 0 hts (lw_V q857 q859 qs18 q94 q860) rfl rfl rfl (by decide +kernel) ⟨(Nat.le_of_ble_eq_true rfl), (Nat.le_of_ble_eq_true rfl)⟩) ⟨Pw.blind, (va_recv hK.1 hP (ci := 1) (q0 := 0) rfl rfl), fun U hU hW => Pw.at hK hP hD hZ hS hA hU hW⟩ rfl rfl hl.1 rfl (lv_room (Nat.le_of_ble_eq_true rfl)) dX0_arcsNoticed_1 ⟨(Nat.le_of_ble_eq_true rfl), (Nat.le_of_ble_eq_true rfl)⟩) hP hD hS hA ?_
  clear hP hD hS
  intro H locs hP hD hS
  clear h_1
  refine lv_if_eq (tgt := 18) hx hb dX0_arcsNoticed_4 (by decide) (fun c_4 => ?_) (fun c_4 => ?_)
  · replace hf := it_f hf (bi_e0 c_4)
    clear c_4
    refine lv_iconst (v := -1) hx hb dX0_arcsNoticed_18 (by decide) ?_
    refine W.widen (k := 0) (n := 0) (Nat.le_of_ble_eq_true rfl) (Nat.le_of_ble_eq_true rfl) ?_
    exact hret _ _ _ _ _ _ hf dX0_arcsNoticed_19 hP hD hS
  · replace hf := it_t hf (bi_n0 c_4)
    clear c_4
    refine lv_iload_n hx hb dX0_arcsNoticed_7 rfl (lv_at hl 1 rfl) ?_
    refine lv_bipush (v := 11) hx hb dX0_arcsNoticed_8 (by decide) ?_
    refine lv_bipush (v := 100) hx hb dX0_arcsNoticed_10 (by decide) ?_
    obtain ⟨r_5, h_6, hf⟩ := b1_some hf
    refine si_call S (tX0_isIn l K p0 (11 : Int32) (100 : Int32) _ h_6) (va_cwS 3 hts (lw_S q331 q332 q94 q333) rfl rfl rfl (by decide +kernel) ⟨(Nat.le_of_ble_eq_true rfl), (Nat.le_of_ble_eq_true rfl)⟩) rfl hl.1 rfl (Nat.le_of_ble_eq_true rfl) ⟨(Nat.le_of_ble_eq_true rfl), (Nat.le_of_ble_eq_true rfl)⟩ dX0_arcsNoticed_12 ?_
    clear h_6
    refine lv_if_ne (tgt := 20) hx hb dX0_arcsNoticed_15 (by decide) (fun c_7 => ?_) (fun c_7 => ?_)
    · replace hf := it_t hf (bi_n0 c_7)
      clear c_7
      cases hf
    · replace hf := it_f hf (bi_e0 c_7)
      clear c_7
      refine lv_iconst (v := -1) hx hb dX0_arcsNoticed_18 (by decide) ?_
      refine W.widen (k := 0) (n := 0) (Nat.le_of_ble_eq_true rfl) (Nat.le_of_ble_eq_true rfl) ?_
      exact hret _ _ _ _ _ _ hf dX0_arcsNoticed_19 hP hD hS
def fX0_evaluationsu (K : Nat) (μ : XS) : Option (Int32 × XS) :=
  b2 (fX0_isReadyu K μ) fun r_2 ξ_3 =>
  if r_2 = true then
    some (ξ_3.1 10, ξ_3)
  else
    some ((-1 : Int32), ξ_3)
set_option maxHeartbeats 4000000 in
set_option maxRecDepth 100000 in
theorem tX0_evaluationsu (l : Launch) (D : va_G) (d : Nat → ClassId) (z : ZT) (b : Nat → Nat) (fl : Option Nat) (K : Nat) (μ : XS) (r : Int32) (μ' : XS) (hf : fX0_evaluationsu K μ = some (r, μ')) : CI l yX0_evaluations (ws_ yX0_evaluations cX0_evaluations 1 (Option.some Jvm.ClassFile.FieldType.int)) (rmc 1 0 0 20) D d z [.ref (b 0)] (XU d z b fl μ) r (XU d z b fl μ') := by
  refine CI.of2 (own := RX0) rfl (by decide) (Nat.le_of_ble_eq_true rfl) rfl ?_
  intro p e s m args below meth c A Q ls S hin hK hP hD hZ hS hA hl hret0
  have hret : ∀ (x : Int32) (μx : XS) (H : Heap) (locs : List Loc) (pc : Nat) (ls' : Array Slot), some (x, μx) = some (r, μ') → decode cX0_evaluations pc = .ok (.ireturn, 1) → va_P D CL (XU d z b fl μx) H → va_D A (XU d z b fl μx) → va_S A s.heap H locs → W p l e (rmc 1 0 0 20) s m args below meth c H locs 0 0 Q (F0 m pc ls' [.int x]) := by
    intro x μx H locs pc ls' h9 hdg hP hD hS
    obtain ⟨rfl, rfl⟩ := so_2 h9
    exact hret0 H locs pc ls' hdg hP hD hS
  have hx := S.1
  have hb := S.2.1
  have hts := S.2.2.2.2
  have hl : lv_has ls 1 [(0, .ref (b 0))] := hl
  unfold fX0_evaluationsu at hf
  refine lv_aload_n hx hb dX0_evaluations_0 rfl (lv_at hl 0 rfl) ?_
  obtain ⟨r_2, ξ_3, h_1, hf⟩ := b2_some hf
  refine runW_i (va_runV (As := []) (rest := []) S (tX0_isReadyu l D d z b fl K μ r_2 ξ_3 h_1 _) (cwV 0 hts (lw_V q857 q859 qs18 q94 q860) rfl rfl rfl (by decide +kernel) ⟨(Nat.le_of_ble_eq_true rfl), (Nat.le_of_ble_eq_true rfl)⟩) ⟨Pw.blind, (va_recv hK.1 hP (ci := 1) (q0 := 0) rfl rfl), fun U hU hW => Pw.at hK hP hD hZ hS hA hU hW⟩ rfl rfl hl.1 rfl (lv_room (Nat.le_of_ble_eq_true rfl)) dX0_evaluations_1 ⟨(Nat.le_of_ble_eq_true rfl), (Nat.le_of_ble_eq_true rfl)⟩) hP hD hS hA ?_
  clear hP hD hS
  intro H locs hP hD hS
  clear h_1
  refine lv_if_eq (tgt := 14) hx hb dX0_evaluations_4 (by decide) (fun c_4 => ?_) (fun c_4 => ?_)
  · replace hf := it_f hf (bi_e0 c_4)
    clear c_4
    refine lv_iconst (v := -1) hx hb dX0_evaluations_14 (by decide) ?_
    refine W.widen (k := 0) (n := 0) (Nat.le_of_ble_eq_true rfl) (Nat.le_of_ble_eq_true rfl) ?_
    exact hret _ _ _ _ _ _ hf dX0_evaluations_15 hP hD hS
  · replace hf := it_t hf (bi_n0 c_4)
    clear c_4
    refine lv_aload_n hx hb dX0_evaluations_7 rfl (lv_at hl 0 rfl) ?_
    refine g_get hx hb hts S.2.2.2.1 hK hP in_X0 0 rfl rfl 10 (by decide) q295 (fun _ h9 => h9) (v := .int (ξ_3.1 10)) rfl dX0_evaluations_8 ?_
    refine lv_goto (tgt := 15) hx hb dX0_evaluations_11 (by decide) ?_
    refine W.widen (k := 0) (n := 0) (Nat.le_of_ble_eq_true rfl) (Nat.le_of_ble_eq_true rfl) ?_
    exact hret _ _ _ _ _ _ hf dX0_evaluations_15 hP hD hS
def fX0_bestSettingsu_L17 (K : Nat) : Nat → Int32 → Int32 → Int32 → XS → Option (Int32 × XS)
  | 0, _, _, _, _ => none
  | n + 1, x17_1, x17_2, x17_3, μ17 =>
    if (8192 : Int32) ≤ x17_3 then
      some (x17_1, μ17)
    else
      none
def fX0_bestSettingsu (K : Nat) (μ : XS) : Option (Int32 × XS) :=
  b2 (fX0_isReadyu K μ) fun r_2 ξ_3 =>
  if r_2 = true then
    fX0_bestSettingsu_L17 K K (0 : Int32) (100000 : Int32) (0 : Int32) ξ_3
  else
    some ((-1 : Int32), ξ_3)
set_option maxHeartbeats 4000000 in
set_option maxRecDepth 100000 in
theorem tX0_bestSettingsu (l : Launch) (D : va_G) (d : Nat → ClassId) (z : ZT) (b : Nat → Nat) (fl : Option Nat) (K : Nat) (μ : XS) (r : Int32) (μ' : XS) (hf : fX0_bestSettingsu K μ = some (r, μ')) : CI l yX0_bestSettings (ws_ yX0_bestSettings cX0_bestSettings 5 (Option.some Jvm.ClassFile.FieldType.int)) (rmc 1 0 0 20) D d z [.ref (b 0)] (XU d z b fl μ) r (XU d z b fl μ') := by
  refine CI.of2 (own := RX0) rfl (by decide) (Nat.le_of_ble_eq_true rfl) rfl ?_
  intro p e s m args below meth c A Q ls S hin hK hP hD hZ hS hA hl hret0
  have hret : ∀ (x : Int32) (μx : XS) (H : Heap) (locs : List Loc) (pc : Nat) (ls' : Array Slot), some (x, μx) = some (r, μ') → decode cX0_bestSettings pc = .ok (.ireturn, 1) → va_P D CL (XU d z b fl μx) H → va_D A (XU d z b fl μx) → va_S A s.heap H locs → W p l e (rmc 1 0 0 20) s m args below meth c H locs 0 0 Q (F0 m pc ls' [.int x]) := by
    intro x μx H locs pc ls' h9 hdg hP hD hS
    obtain ⟨rfl, rfl⟩ := so_2 h9
    exact hret0 H locs pc ls' hdg hP hD hS
  have hx := S.1
  have hb := S.2.1
  have hts := S.2.2.2.2
  have hl : lv_has ls 5 [(0, .ref (b 0))] := hl
  have L17 : ∀ (n : Nat) (x17_1 : Int32) (x17_2 : Int32) (x17_3 : Int32) (μ17 : XS) (H : Heap) (locs : List Loc) (ls : Array Slot), fX0_bestSettingsu_L17 K n x17_1 x17_2 x17_3 μ17 = some (r, μ') → va_P D CL (XU d z b fl μ17) H → va_D A (XU d z b fl μ17) → va_S A s.heap H locs → lv_has ls 5 [(0, .ref (b 0)), (1, .int x17_1), (2, .int x17_2), (3, .int x17_3)] → W p l e (rmc 1 0 0 20) s m args below meth c H locs 0 0 Q (F0 m 17 ls []) := by
    intro n
    induction n with
    | zero =>
      intro x17_1 x17_2 x17_3 μ17 H locs ls hf hP hD hS hl
      rw [fX0_bestSettingsu_L17] at hf
      cases hf
    | succ n ih =>
      intro x17_1 x17_2 x17_3 μ17 H locs ls hf hP hD hS hl
      rw [fX0_bestSettingsu_L17] at hf
      refine lv_iload_n hx hb dX0_bestSettings_17 rfl (lv_at hl 3 rfl) ?_
      refine lv_sipush (v := 8192) hx hb dX0_bestSettings_18 (by decide) ?_
      refine lv_icmp_ge (tgt := 48) hx hb dX0_bestSettings_21 (by decide) (fun c_5 => ?_) (fun c_5 => ?_)
      · replace hf := it_t hf c_5
        clear c_5
        refine lv_iload_n hx hb dX0_bestSettings_48 rfl (lv_at hl 1 rfl) ?_
        refine W.widen (k := 0) (n := 0) (Nat.le_of_ble_eq_true rfl) (Nat.le_of_ble_eq_true rfl) ?_
        exact hret _ _ _ _ _ _ hf dX0_bestSettings_49 hP hD hS
      · replace hf := it_f hf c_5
        clear c_5
        cases hf
  unfold fX0_bestSettingsu at hf
  refine lv_aload_n hx hb dX0_bestSettings_0 rfl (lv_at hl 0 rfl) ?_
  obtain ⟨r_2, ξ_3, h_1, hf⟩ := b2_some hf
  refine runW_i (va_runV (As := []) (rest := []) S (tX0_isReadyu l D d z b fl K μ r_2 ξ_3 h_1 _) (cwV 0 hts (lw_V q857 q859 qs18 q94 q860) rfl rfl rfl (by decide +kernel) ⟨(Nat.le_of_ble_eq_true rfl), (Nat.le_of_ble_eq_true rfl)⟩) ⟨Pw.blind, (va_recv hK.1 hP (ci := 1) (q0 := 0) rfl rfl), fun U hU hW => Pw.at hK hP hD hZ hS hA hU hW⟩ rfl rfl hl.1 rfl (lv_room (Nat.le_of_ble_eq_true rfl)) dX0_bestSettings_1 ⟨(Nat.le_of_ble_eq_true rfl), (Nat.le_of_ble_eq_true rfl)⟩) hP hD hS hA ?_
  clear hP hD hS
  intro H locs hP hD hS
  clear h_1
  refine lv_if_ne (tgt := 9) hx hb dX0_bestSettings_4 (by decide) (fun c_4 => ?_) (fun c_4 => ?_)
  · replace hf := it_t hf (bi_n0 c_4)
    clear c_4
    refine lv_iconst (v := 0) hx hb dX0_bestSettings_9 (by decide) ?_
    refine lv_istore_n (lv' := [(1, .int (0 : Int32)), (0, .ref (b 0))]) hx hb dX0_bestSettings_10 rfl hl (by decide) rfl (fun ls hl => ?_)
    refine lv_ldcw hx hb S.2.2.2.1 (hts _ q1446) dX0_bestSettings_11 ?_
    refine lv_istore_n (lv' := [(2, .int (100000 : Int32)), (1, .int (0 : Int32)), (0, .ref (b 0))]) hx hb dX0_bestSettings_14 rfl hl (by decide) rfl (fun ls hl => ?_)
    refine lv_iconst (v := 0) hx hb dX0_bestSettings_15 (by decide) ?_
    refine lv_istore_n (lv' := [(3, .int (0 : Int32)), (2, .int (100000 : Int32)), (1, .int (0 : Int32)), (0, .ref (b 0))]) hx hb dX0_bestSettings_16 rfl hl (by decide) rfl (fun ls hl => ?_)
    exact L17 K (0 : Int32) (100000 : Int32) (0 : Int32) ξ_3 _ _ _ hf hP hD hS (lv_sub hl [3, 2, 1, 0] rfl)
  · replace hf := it_f hf (bi_e0 c_4)
    clear c_4
    refine lv_iconst (v := -1) hx hb dX0_bestSettings_7 (by decide) ?_
    refine W.widen (k := 0) (n := 0) (Nat.le_of_ble_eq_true rfl) (Nat.le_of_ble_eq_true rfl) ?_
    exact hret _ _ _ _ _ _ hf dX0_bestSettings_8 hP hD hS
def fX0_mostEfficientu_L16 (K : Nat) : Nat → Int32 → Int32 → Int32 → XS → Option (Int32 × XS)
  | 0, _, _, _, _ => none
  | n + 1, x16_1, x16_2, x16_3, μ16 =>
    if (8192 : Int32) ≤ x16_3 then
      some (x16_1, μ16)
    else
      none
def fX0_mostEfficientu (K : Nat) (μ : XS) : Option (Int32 × XS) :=
  b2 (fX0_isReadyu K μ) fun r_2 ξ_3 =>
  if r_2 = true then
    fX0_mostEfficientu_L16 K K (-2 : Int32) (-1 : Int32) (0 : Int32) ξ_3
  else
    some ((-1 : Int32), ξ_3)
set_option maxHeartbeats 4000000 in
set_option maxRecDepth 100000 in
theorem tX0_mostEfficientu (l : Launch) (D : va_G) (d : Nat → ClassId) (z : ZT) (b : Nat → Nat) (fl : Option Nat) (K : Nat) (μ : XS) (r : Int32) (μ' : XS) (hf : fX0_mostEfficientu K μ = some (r, μ')) : CI l yX0_mostEfficient (ws_ yX0_mostEfficient cX0_mostEfficient 5 (Option.some Jvm.ClassFile.FieldType.int)) (rmc 1 0 0 20) D d z [.ref (b 0)] (XU d z b fl μ) r (XU d z b fl μ') := by
  refine CI.of2 (own := RX0) rfl (by decide) (Nat.le_of_ble_eq_true rfl) rfl ?_
  intro p e s m args below meth c A Q ls S hin hK hP hD hZ hS hA hl hret0
  have hret : ∀ (x : Int32) (μx : XS) (H : Heap) (locs : List Loc) (pc : Nat) (ls' : Array Slot), some (x, μx) = some (r, μ') → decode cX0_mostEfficient pc = .ok (.ireturn, 1) → va_P D CL (XU d z b fl μx) H → va_D A (XU d z b fl μx) → va_S A s.heap H locs → W p l e (rmc 1 0 0 20) s m args below meth c H locs 0 0 Q (F0 m pc ls' [.int x]) := by
    intro x μx H locs pc ls' h9 hdg hP hD hS
    obtain ⟨rfl, rfl⟩ := so_2 h9
    exact hret0 H locs pc ls' hdg hP hD hS
  have hx := S.1
  have hb := S.2.1
  have hts := S.2.2.2.2
  have hl : lv_has ls 5 [(0, .ref (b 0))] := hl
  have L16 : ∀ (n : Nat) (x16_1 : Int32) (x16_2 : Int32) (x16_3 : Int32) (μ16 : XS) (H : Heap) (locs : List Loc) (ls : Array Slot), fX0_mostEfficientu_L16 K n x16_1 x16_2 x16_3 μ16 = some (r, μ') → va_P D CL (XU d z b fl μ16) H → va_D A (XU d z b fl μ16) → va_S A s.heap H locs → lv_has ls 5 [(0, .ref (b 0)), (1, .int x16_1), (2, .int x16_2), (3, .int x16_3)] → W p l e (rmc 1 0 0 20) s m args below meth c H locs 0 0 Q (F0 m 16 ls []) := by
    intro n
    induction n with
    | zero =>
      intro x16_1 x16_2 x16_3 μ16 H locs ls hf hP hD hS hl
      rw [fX0_mostEfficientu_L16] at hf
      cases hf
    | succ n ih =>
      intro x16_1 x16_2 x16_3 μ16 H locs ls hf hP hD hS hl
      rw [fX0_mostEfficientu_L16] at hf
      refine lv_iload_n hx hb dX0_mostEfficient_16 rfl (lv_at hl 3 rfl) ?_
      refine lv_sipush (v := 8192) hx hb dX0_mostEfficient_17 (by decide) ?_
      refine lv_icmp_ge (tgt := 77) hx hb dX0_mostEfficient_20 (by decide) (fun c_5 => ?_) (fun c_5 => ?_)
      · replace hf := it_t hf c_5
        clear c_5
        refine lv_iload_n hx hb dX0_mostEfficient_77 rfl (lv_at hl 1 rfl) ?_
        refine W.widen (k := 0) (n := 0) (Nat.le_of_ble_eq_true rfl) (Nat.le_of_ble_eq_true rfl) ?_
        exact hret _ _ _ _ _ _ hf dX0_mostEfficient_78 hP hD hS
      · replace hf := it_f hf c_5
        clear c_5
        cases hf
  unfold fX0_mostEfficientu at hf
  refine lv_aload_n hx hb dX0_mostEfficient_0 rfl (lv_at hl 0 rfl) ?_
  obtain ⟨r_2, ξ_3, h_1, hf⟩ := b2_some hf
  refine runW_i (va_runV (As := []) (rest := []) S (tX0_isReadyu l D d z b fl K μ r_2 ξ_3 h_1 _) (cwV 0 hts (lw_V q857 q859 qs18 q94 q860) rfl rfl rfl (by decide +kernel) ⟨(Nat.le_of_ble_eq_true rfl), (Nat.le_of_ble_eq_true rfl)⟩) ⟨Pw.blind, (va_recv hK.1 hP (ci := 1) (q0 := 0) rfl rfl), fun U hU hW => Pw.at hK hP hD hZ hS hA hU hW⟩ rfl rfl hl.1 rfl (lv_room (Nat.le_of_ble_eq_true rfl)) dX0_mostEfficient_1 ⟨(Nat.le_of_ble_eq_true rfl), (Nat.le_of_ble_eq_true rfl)⟩) hP hD hS hA ?_
  clear hP hD hS
  intro H locs hP hD hS
  clear h_1
  refine lv_if_ne (tgt := 9) hx hb dX0_mostEfficient_4 (by decide) (fun c_4 => ?_) (fun c_4 => ?_)
  · replace hf := it_t hf (bi_n0 c_4)
    clear c_4
    refine lv_bipush (v := -2) hx hb dX0_mostEfficient_9 (by decide) ?_
    refine lv_istore_n (lv' := [(1, .int (-2 : Int32)), (0, .ref (b 0))]) hx hb dX0_mostEfficient_11 rfl hl (by decide) rfl (fun ls hl => ?_)
    refine lv_iconst (v := -1) hx hb dX0_mostEfficient_12 (by decide) ?_
    refine lv_istore_n (lv' := [(2, .int (-1 : Int32)), (1, .int (-2 : Int32)), (0, .ref (b 0))]) hx hb dX0_mostEfficient_13 rfl hl (by decide) rfl (fun ls hl => ?_)
    refine lv_iconst (v := 0) hx hb dX0_mostEfficient_14 (by decide) ?_
    refine lv_istore_n (lv' := [(3, .int (0 : Int32)), (2, .int (-1 : Int32)), (1, .int (-2 : Int32)), (0, .ref (b 0))]) hx hb dX0_mostEfficient_15 rfl hl (by decide) rfl (fun ls hl => ?_)
    exact L16 K (-2 : Int32) (-1 : Int32) (0 : Int32) ξ_3 _ _ _ hf hP hD hS (lv_sub hl [3, 2, 1, 0] rfl)
  · replace hf := it_f hf (bi_e0 c_4)
    clear c_4
    refine lv_iconst (v := -1) hx hb dX0_mostEfficient_7 (by decide) ?_
    refine W.widen (k := 0) (n := 0) (Nat.le_of_ble_eq_true rfl) (Nat.le_of_ble_eq_true rfl) ?_
    exact hret _ _ _ _ _ _ hf dX0_mostEfficient_8 hP hD hS
def fX0_swrWithu (K : Nat) (p0 : Int32) (p1 : Int32) (p2 : Int32) (μ : XS) : Option (Int32 × XS) :=
  b2 (fX0_areSettingsu K p0 p1 p2 μ) fun r_2 ξ_3 =>
  if r_2 = true then
    none
  else
    some ((-1 : Int32), ξ_3)
set_option maxHeartbeats 4000000 in
set_option maxRecDepth 100000 in
theorem tX0_swrWithu (l : Launch) (D : va_G) (d : Nat → ClassId) (z : ZT) (b : Nat → Nat) (fl : Option Nat) (K : Nat) (p0 : Int32) (p1 : Int32) (p2 : Int32) (μ : XS) (r : Int32) (μ' : XS) (hf : fX0_swrWithu K p0 p1 p2 μ = some (r, μ')) : CI l yX0_swrWith (ws_ yX0_swrWith cX0_swrWith 4 (Option.some Jvm.ClassFile.FieldType.int)) (rmc 3 1 3 65) D d z [.ref (b 0), .int p0, .int p1, .int p2] (XU d z b fl μ) r (XU d z b fl μ') := by
  refine CI.of2 (own := RX0) rfl (by decide) (Nat.le_of_ble_eq_true rfl) rfl ?_
  intro p e s m args below meth c A Q ls S hin hK hP hD hZ hS hA hl hret0
  have hret : ∀ (x : Int32) (μx : XS) (H : Heap) (locs : List Loc) (pc : Nat) (ls' : Array Slot), some (x, μx) = some (r, μ') → decode cX0_swrWith pc = .ok (.ireturn, 1) → va_P D CL (XU d z b fl μx) H → va_D A (XU d z b fl μx) → va_S A s.heap H locs → W p l e (rmc 3 1 3 65) s m args below meth c H locs 1 3 Q (F0 m pc ls' [.int x]) := by
    intro x μx H locs pc ls' h9 hdg hP hD hS
    obtain ⟨rfl, rfl⟩ := so_2 h9
    exact hret0 H locs pc ls' hdg hP hD hS
  have hx := S.1
  have hb := S.2.1
  have hts := S.2.2.2.2
  have hl : lv_has ls 4 [(0, .ref (b 0)), (1, .int p0), (2, .int p1), (3, .int p2)] := hl
  unfold fX0_swrWithu at hf
  refine lv_aload_n hx hb dX0_swrWith_0 rfl (lv_at hl 0 rfl) ?_
  refine lv_iload_n hx hb dX0_swrWith_1 rfl (lv_at hl 1 rfl) ?_
  refine lv_iload_n hx hb dX0_swrWith_2 rfl (lv_at hl 2 rfl) ?_
  refine lv_iload_n hx hb dX0_swrWith_3 rfl (lv_at hl 3 rfl) ?_
  obtain ⟨r_2, ξ_3, h_1, hf⟩ := b2_some hf
  refine runW_i (va_runV (As := [.int p0, .int p1, .int p2]) (rest := []) S (tX0_areSettingsu l D d z b fl K p0 p1 p2 μ r_2 ξ_3 h_1 _) (cwV 3 hts (lw_V q1079 q1081 qs29 q94 q1082) rfl rfl rfl (by decide +kernel) ⟨(Nat.le_of_ble_eq_true rfl), (Nat.le_of_ble_eq_true rfl)⟩) ⟨Pw.blind, (va_recv hK.1 hP (ci := 1) (q0 := 0) rfl rfl), fun U hU hW => Pw.at hK hP hD hZ hS hA hU hW⟩ rfl rfl hl.1 rfl (lv_room (Nat.le_of_ble_eq_true rfl)) dX0_swrWith_4 ⟨(Nat.le_of_ble_eq_true rfl), (Nat.le_of_ble_eq_true rfl)⟩) hP hD hS hA ?_
  clear hP hD hS
  intro H locs hP hD hS
  clear h_1
  refine lv_if_eq (tgt := 30) hx hb dX0_swrWith_7 (by decide) (fun c_4 => ?_) (fun c_4 => ?_)
  · replace hf := it_f hf (bi_e0 c_4)
    clear c_4
    refine lv_iconst (v := -1) hx hb dX0_swrWith_30 (by decide) ?_
    refine W.widen (k := 1) (n := 3) (Nat.le_of_ble_eq_true rfl) (Nat.le_of_ble_eq_true rfl) ?_
    exact hret _ _ _ _ _ _ hf dX0_swrWith_31 hP hD hS
  · replace hf := it_t hf (bi_n0 c_4)
    clear c_4
    cases hf
def fX0_put_L3 (K : Nat) : Nat → Int32 → Int32 → XS → Option XS
  | 0, _, _, _ => none
  | n + 1, x3_1, x3_2, μ3 =>
    if x3_2 < 0 then
      some μ3
    else
      ga (ix (μ3.1 1) 500) <|
      nm (xF μ3 1 (upd (μ3.2.2.1 1) (μ3.1 1).toNatClampNeg (vp_nar .byte ((x3_1 >>> (x3_2 &&& 31)).toInt8.toInt32)))) fun ξ_3 =>
      nm (xI ξ_3 1 ((ξ_3.1 1) + (1 : Int32))) fun ξ_4 =>
      fX0_put_L3 K n x3_1 (x3_2 + (-8 : Int32)) ξ_4
def fX0_put (K : Nat) (p0 : Int32) (μ : XS) : Option XS :=
  fX0_put_L3 K K p0 (24 : Int32) μ
set_option maxHeartbeats 4000000 in
set_option maxRecDepth 100000 in
theorem tX0_put (l : Launch) (D : va_G) (d : Nat → ClassId) (z : ZT) (b : Nat → Nat) (fl : Option Nat) (K : Nat) (p0 : Int32) (μ : XS) (μ' : XS) (hf : fX0_put K p0 μ = some μ') : CV l yX0_put (ws_ yX0_put cX0_put 3 (Option.none : Option Jvm.ClassFile.FieldType)) (rmc 0 0 0 0) D d z [.ref (b 0), .int p0] (XP d z b fl μ) (XP d z b fl μ') := by
  refine CV.of2 (own := RX0) rfl (by decide) (Nat.le_of_ble_eq_true rfl) ?_
  intro p e s m args below meth c A Q ls S hin hK hP hD hZ hS hA hl hret0
  have hret : ∀ (μx : XS) (H : Heap) (locs : List Loc) (pc : Nat) (ls' : Array Slot), some μx = some μ' → decode cX0_put pc = .ok (.return_, 1) → va_P D CL (XP d z b fl μx) H → va_D A (XP d z b fl μx) → va_S A s.heap H locs → W p l e (rmc 0 0 0 0) s m args below meth c H locs 0 0 Q (F0 m pc ls' []) := by
    intro μx H locs pc ls' h9 hdg hP hD hS
    obtain rfl := so_1 h9
    exact hret0 H locs pc ls' hdg hP hD hS
  have hx := S.1
  have hb := S.2.1
  have hts := S.2.2.2.2
  have hl : lv_has ls 3 [(0, .ref (b 0)), (1, .int p0)] := hl
  have L3 : ∀ (n : Nat) (x3_1 : Int32) (x3_2 : Int32) (μ3 : XS) (H : Heap) (locs : List Loc) (ls : Array Slot), fX0_put_L3 K n x3_1 x3_2 μ3 = some μ' → va_P D CL (XP d z b fl μ3) H → va_D A (XP d z b fl μ3) → va_S A s.heap H locs → lv_has ls 3 [(0, .ref (b 0)), (1, .int x3_1), (2, .int x3_2)] → W p l e (rmc 0 0 0 0) s m args below meth c H locs 0 0 Q (F0 m 3 ls []) := by
    intro n
    induction n with
    | zero =>
      intro x3_1 x3_2 μ3 H locs ls hf hP hD hS hl
      rw [fX0_put_L3] at hf
      cases hf
    | succ n ih =>
      intro x3_1 x3_2 μ3 H locs ls hf hP hD hS hl
      rw [fX0_put_L3] at hf
      refine lv_iload_n hx hb dX0_put_3 rfl (lv_at hl 2 rfl) ?_
      refine lv_if_lt (tgt := 36) hx hb dX0_put_4 (by decide) (fun c_1 => ?_) (fun c_1 => ?_)
      · replace hf := it_t hf c_1
        clear c_1
        refine W.widen (k := 0) (n := 0) (Nat.le_of_ble_eq_true rfl) (Nat.le_of_ble_eq_true rfl) ?_
        exact hret _ _ _ _ _ hf dX0_put_36 hP hD hS
      · replace hf := it_f hf c_1
        clear c_1
        refine lv_aload_n hx hb dX0_put_7 rfl (lv_at hl 0 rfl) ?_
        refine g_get hx hb hts S.2.2.2.1 hK hP in_X0 0 rfl rfl 0 (by decide) q278 (fun _ h9 => h9) (v := .ref (b 1)) rfl dX0_put_8 ?_
        refine lv_aload_n hx hb dX0_put_11 rfl (lv_at hl 0 rfl) ?_
        refine g_get hx hb hts S.2.2.2.1 hK hP in_X0 0 rfl rfl 1 (by decide) q280 (fun _ h9 => h9) (v := .int (μ3.1 1)) rfl dX0_put_12 ?_
        refine lv_iload_n hx hb dX0_put_15 rfl (lv_at hl 1 rfl) ?_
        refine lv_iload_n hx hb dX0_put_16 rfl (lv_at hl 2 rfl) ?_
        refine lv_ishr hx hb dX0_put_17 ?_
        refine lv_i2b (v := (x3_1 >>> (x3_2 &&& 31)).toInt8.toInt32) hx hb dX0_put_18 rfl ?_
        obtain ⟨g_2, hf⟩ := ga_some hf
        obtain ⟨ξ_3, e_ξ_3⟩ : ∃ x, x = xF μ3 1 (upd (μ3.2.2.1 1) (μ3.1 1).toNatClampNeg (vp_nar .byte ((x3_1 >>> (x3_2 &&& 31)).toInt8.toInt32))) := ⟨_, rfl⟩
        refine g_bast hx hb hK hP hD hS 1 rfl (ix_in g_2) (w' := XP d z b fl ξ_3) (by subst e_ξ_3; rfl) dX0_put_19 ?_
        clear hP hD hS
        intro H locs hP hD hS
        replace hf := nm_some hf ξ_3 e_ξ_3
        clear e_ξ_3
        refine lv_aload_n hx hb dX0_put_20 rfl (lv_at hl 0 rfl) ?_
        refine lv_dup hx hb dX0_put_21 rfl ?_
        refine g_get hx hb hts S.2.2.2.1 hK hP in_X0 0 rfl rfl 1 (by decide) q280 (fun _ h9 => h9) (v := .int (ξ_3.1 1)) rfl dX0_put_22 ?_
        refine lv_iconst (v := 1) hx hb dX0_put_25 (by decide) ?_
        refine lv_iadd hx hb dX0_put_26 ?_
        obtain ⟨ξ_4, e_ξ_4⟩ : ∃ x, x = xI ξ_3 1 ((ξ_3.1 1) + (1 : Int32)) := ⟨_, rfl⟩
        refine g_put hx hb hts S.2.2.2.1 hK hP hD hS in_X0 tyX0 tyX0_ok nmX0 0 rfl rfl 1 (by decide) q280 (fun _ h9 => h9) rfl (v := .int ((ξ_3.1 1) + (1 : Int32))) rfl rfl rfl (Nat.le_of_ble_eq_true rfl) (w' := XP d z b fl ξ_4) (by subst e_ξ_4; rfl) dX0_put_27 ?_
        clear hP hD hS
        intro H locs hP hD hS
        replace hf := nm_some hf ξ_4 e_ξ_4
        clear e_ξ_4
        refine lv_iinc (v := x3_2 + (-8 : Int32)) (lv' := [(2, .int (x3_2 + (-8 : Int32))), (0, .ref (b 0)), (1, .int x3_1)]) hx hb dX0_put_30 hl (k := 2) rfl rfl (by decide) rfl (fun ls hl => ?_)
        refine lv_goto (tgt := 3) hx hb dX0_put_33 (by decide) ?_
        exact ih x3_1 (x3_2 + (-8 : Int32)) ξ_4 _ _ _ hf hP hD hS (lv_sub hl [1, 2, 0] rfl)
  unfold fX0_put at hf
  refine lv_bipush (v := 24) hx hb dX0_put_0 (by decide) ?_
  refine lv_istore_n (lv' := [(2, .int (24 : Int32)), (0, .ref (b 0)), (1, .int p0)]) hx hb dX0_put_2 rfl hl (by decide) rfl (fun ls hl => ?_)
  exact L3 K p0 (24 : Int32) μ _ _ _ hf hP hD hS (lv_sub hl [1, 2, 0] rfl)
def fX0_putu_L3 (K : Nat) : Nat → Int32 → Int32 → XS → Option XS
  | 0, _, _, _ => none
  | n + 1, x3_1, x3_2, μ3 =>
    if x3_2 < 0 then
      some μ3
    else
      ga (ix (μ3.1 1) 500) <|
      nm (xF μ3 1 (upd (μ3.2.2.1 1) (μ3.1 1).toNatClampNeg (vp_nar .byte ((x3_1 >>> (x3_2 &&& 31)).toInt8.toInt32)))) fun ξ_3 =>
      nm (xI ξ_3 1 ((ξ_3.1 1) + (1 : Int32))) fun ξ_4 =>
      fX0_putu_L3 K n x3_1 (x3_2 + (-8 : Int32)) ξ_4
def fX0_putu (K : Nat) (p0 : Int32) (μ : XS) : Option XS :=
  fX0_putu_L3 K K p0 (24 : Int32) μ
set_option maxHeartbeats 4000000 in
set_option maxRecDepth 100000 in
theorem tX0_putu (l : Launch) (D : va_G) (d : Nat → ClassId) (z : ZT) (b : Nat → Nat) (fl : Option Nat) (K : Nat) (p0 : Int32) (μ : XS) (μ' : XS) (hf : fX0_putu K p0 μ = some μ') : CV l yX0_put (ws_ yX0_put cX0_put 3 (Option.none : Option Jvm.ClassFile.FieldType)) (rmc 0 0 0 0) D d z [.ref (b 0), .int p0] (XU d z b fl μ) (XU d z b fl μ') := by
  refine CV.of2 (own := RX0) rfl (by decide) (Nat.le_of_ble_eq_true rfl) ?_
  intro p e s m args below meth c A Q ls S hin hK hP hD hZ hS hA hl hret0
  have hret : ∀ (μx : XS) (H : Heap) (locs : List Loc) (pc : Nat) (ls' : Array Slot), some μx = some μ' → decode cX0_put pc = .ok (.return_, 1) → va_P D CL (XU d z b fl μx) H → va_D A (XU d z b fl μx) → va_S A s.heap H locs → W p l e (rmc 0 0 0 0) s m args below meth c H locs 0 0 Q (F0 m pc ls' []) := by
    intro μx H locs pc ls' h9 hdg hP hD hS
    obtain rfl := so_1 h9
    exact hret0 H locs pc ls' hdg hP hD hS
  have hx := S.1
  have hb := S.2.1
  have hts := S.2.2.2.2
  have hl : lv_has ls 3 [(0, .ref (b 0)), (1, .int p0)] := hl
  have L3 : ∀ (n : Nat) (x3_1 : Int32) (x3_2 : Int32) (μ3 : XS) (H : Heap) (locs : List Loc) (ls : Array Slot), fX0_putu_L3 K n x3_1 x3_2 μ3 = some μ' → va_P D CL (XU d z b fl μ3) H → va_D A (XU d z b fl μ3) → va_S A s.heap H locs → lv_has ls 3 [(0, .ref (b 0)), (1, .int x3_1), (2, .int x3_2)] → W p l e (rmc 0 0 0 0) s m args below meth c H locs 0 0 Q (F0 m 3 ls []) := by
    intro n
    induction n with
    | zero =>
      intro x3_1 x3_2 μ3 H locs ls hf hP hD hS hl
      rw [fX0_putu_L3] at hf
      cases hf
    | succ n ih =>
      intro x3_1 x3_2 μ3 H locs ls hf hP hD hS hl
      rw [fX0_putu_L3] at hf
      refine lv_iload_n hx hb dX0_put_3 rfl (lv_at hl 2 rfl) ?_
      refine lv_if_lt (tgt := 36) hx hb dX0_put_4 (by decide) (fun c_1 => ?_) (fun c_1 => ?_)
      · replace hf := it_t hf c_1
        clear c_1
        refine W.widen (k := 0) (n := 0) (Nat.le_of_ble_eq_true rfl) (Nat.le_of_ble_eq_true rfl) ?_
        exact hret _ _ _ _ _ hf dX0_put_36 hP hD hS
      · replace hf := it_f hf c_1
        clear c_1
        refine lv_aload_n hx hb dX0_put_7 rfl (lv_at hl 0 rfl) ?_
        refine g_get hx hb hts S.2.2.2.1 hK hP in_X0 0 rfl rfl 0 (by decide) q278 (fun _ h9 => h9) (v := .ref (b 1)) rfl dX0_put_8 ?_
        refine lv_aload_n hx hb dX0_put_11 rfl (lv_at hl 0 rfl) ?_
        refine g_get hx hb hts S.2.2.2.1 hK hP in_X0 0 rfl rfl 1 (by decide) q280 (fun _ h9 => h9) (v := .int (μ3.1 1)) rfl dX0_put_12 ?_
        refine lv_iload_n hx hb dX0_put_15 rfl (lv_at hl 1 rfl) ?_
        refine lv_iload_n hx hb dX0_put_16 rfl (lv_at hl 2 rfl) ?_
        refine lv_ishr hx hb dX0_put_17 ?_
        refine lv_i2b (v := (x3_1 >>> (x3_2 &&& 31)).toInt8.toInt32) hx hb dX0_put_18 rfl ?_
        obtain ⟨g_2, hf⟩ := ga_some hf
        obtain ⟨ξ_3, e_ξ_3⟩ : ∃ x, x = xF μ3 1 (upd (μ3.2.2.1 1) (μ3.1 1).toNatClampNeg (vp_nar .byte ((x3_1 >>> (x3_2 &&& 31)).toInt8.toInt32))) := ⟨_, rfl⟩
        refine g_bast hx hb hK hP hD hS 1 rfl (ix_in g_2) (w' := XU d z b fl ξ_3) (by subst e_ξ_3; rfl) dX0_put_19 ?_
        clear hP hD hS
        intro H locs hP hD hS
        replace hf := nm_some hf ξ_3 e_ξ_3
        clear e_ξ_3
        refine lv_aload_n hx hb dX0_put_20 rfl (lv_at hl 0 rfl) ?_
        refine lv_dup hx hb dX0_put_21 rfl ?_
        refine g_get hx hb hts S.2.2.2.1 hK hP in_X0 0 rfl rfl 1 (by decide) q280 (fun _ h9 => h9) (v := .int (ξ_3.1 1)) rfl dX0_put_22 ?_
        refine lv_iconst (v := 1) hx hb dX0_put_25 (by decide) ?_
        refine lv_iadd hx hb dX0_put_26 ?_
        obtain ⟨ξ_4, e_ξ_4⟩ : ∃ x, x = xI ξ_3 1 ((ξ_3.1 1) + (1 : Int32)) := ⟨_, rfl⟩
        refine g_put hx hb hts S.2.2.2.1 hK hP hD hS in_X0 tyX0 tyX0_ok nmX0 0 rfl rfl 1 (by decide) q280 (fun _ h9 => h9) rfl (v := .int ((ξ_3.1 1) + (1 : Int32))) rfl rfl rfl (Nat.le_of_ble_eq_true rfl) (w' := XU d z b fl ξ_4) (by subst e_ξ_4; rfl) dX0_put_27 ?_
        clear hP hD hS
        intro H locs hP hD hS
        replace hf := nm_some hf ξ_4 e_ξ_4
        clear e_ξ_4
        refine lv_iinc (v := x3_2 + (-8 : Int32)) (lv' := [(2, .int (x3_2 + (-8 : Int32))), (0, .ref (b 0)), (1, .int x3_1)]) hx hb dX0_put_30 hl (k := 2) rfl rfl (by decide) rfl (fun ls hl => ?_)
        refine lv_goto (tgt := 3) hx hb dX0_put_33 (by decide) ?_
        exact ih x3_1 (x3_2 + (-8 : Int32)) ξ_4 _ _ _ hf hP hD hS (lv_sub hl [1, 2, 0] rfl)
  unfold fX0_putu at hf
  refine lv_bipush (v := 24) hx hb dX0_put_0 (by decide) ?_
  refine lv_istore_n (lv' := [(2, .int (24 : Int32)), (0, .ref (b 0)), (1, .int p0)]) hx hb dX0_put_2 rfl hl (by decide) rfl (fun ls hl => ?_)
  exact L3 K p0 (24 : Int32) μ _ _ _ hf hP hD hS (lv_sub hl [1, 2, 0] rfl)
def fX0_append (K : Nat) (p0 : Int32) (p1 : Int32) (p2 : Int32) (p3 : Int32) (p4 : Int32) (μ : XS) : Option (Int32 × XS) :=
  if ((μ.1 1) + (20 : Int32)) ≤ (500 : Int32) then
    b1 (fX0_put K p0 μ) fun ξ_3 =>
    b1 (fX0_put K p1 ξ_3) fun ξ_5 =>
    b1 (fX0_put K p2 ξ_5) fun ξ_7 =>
    b1 (fX0_put K p3 ξ_7) fun ξ_9 =>
    b1 (fX0_put K p4 ξ_9) fun ξ_11 =>
    some (ξ_11.1 1, ξ_11)
  else
    some ((-2 : Int32), μ)
set_option maxHeartbeats 4000000 in
set_option maxRecDepth 100000 in
theorem tX0_append (l : Launch) (D : va_G) (d : Nat → ClassId) (z : ZT) (b : Nat → Nat) (fl : Option Nat) (K : Nat) (p0 : Int32) (p1 : Int32) (p2 : Int32) (p3 : Int32) (p4 : Int32) (μ : XS) (r : Int32) (μ' : XS) (hf : fX0_append K p0 p1 p2 p3 p4 μ = some (r, μ')) : CI l yX0_append (ws_ yX0_append cX0_append 6 (Option.some Jvm.ClassFile.FieldType.int)) (rmc 1 0 0 22) D d z [.ref (b 0), .int p0, .int p1, .int p2, .int p3, .int p4] (XP d z b fl μ) r (XP d z b fl μ') := by
  refine CI.of2 (own := RX0) rfl (by decide) (Nat.le_of_ble_eq_true rfl) rfl ?_
  intro p e s m args below meth c A Q ls S hin hK hP hD hZ hS hA hl hret0
  have hret : ∀ (x : Int32) (μx : XS) (H : Heap) (locs : List Loc) (pc : Nat) (ls' : Array Slot), some (x, μx) = some (r, μ') → decode cX0_append pc = .ok (.ireturn, 1) → va_P D CL (XP d z b fl μx) H → va_D A (XP d z b fl μx) → va_S A s.heap H locs → W p l e (rmc 1 0 0 22) s m args below meth c H locs 0 0 Q (F0 m pc ls' [.int x]) := by
    intro x μx H locs pc ls' h9 hdg hP hD hS
    obtain ⟨rfl, rfl⟩ := so_2 h9
    exact hret0 H locs pc ls' hdg hP hD hS
  have hx := S.1
  have hb := S.2.1
  have hts := S.2.2.2.2
  have hl : lv_has ls 6 [(0, .ref (b 0)), (1, .int p0), (2, .int p1), (3, .int p2), (4, .int p3), (5, .int p4)] := hl
  unfold fX0_append at hf
  refine lv_aload_n hx hb dX0_append_0 rfl (lv_at hl 0 rfl) ?_
  refine g_get hx hb hts S.2.2.2.1 hK hP in_X0 0 rfl rfl 1 (by decide) q280 (fun _ h9 => h9) (v := .int (μ.1 1)) rfl dX0_append_1 ?_
  refine lv_bipush (v := 20) hx hb dX0_append_4 (by decide) ?_
  refine lv_iadd hx hb dX0_append_6 ?_
  refine lv_sipush (v := 500) hx hb dX0_append_7 (by decide) ?_
  refine lv_icmp_le (tgt := 16) hx hb dX0_append_10 (by decide) (fun c_1 => ?_) (fun c_1 => ?_)
  · replace hf := it_t hf c_1
    clear c_1
    refine lv_aload_n hx hb dX0_append_16 rfl (lv_at hl 0 rfl) ?_
    refine lv_iload_n hx hb dX0_append_17 rfl (lv_at hl 1 rfl) ?_
    obtain ⟨ξ_3, h_2, hf⟩ := b1_some hf
    refine runW_v (va_runV (As := [.int p0]) (rest := []) S (tX0_put l D d z b fl K p0 μ ξ_3 h_2 _) (cwV 1 hts (lw_V q323 q325 qs1 q94 q326) rfl rfl rfl (by decide +kernel) ⟨(Nat.le_of_ble_eq_true rfl), (Nat.le_of_ble_eq_true rfl)⟩) ⟨Pw.blind, (va_recv hK.1 hP (ci := 1) (q0 := 0) rfl rfl), fun U hU hW => Pw.at hK hP hD hZ hS hA hU hW⟩ rfl rfl hl.1 rfl (lv_room (Nat.le_of_ble_eq_true rfl)) dX0_append_18 ⟨(Nat.le_of_ble_eq_true rfl), (Nat.le_of_ble_eq_true rfl)⟩) hP hD hS hA ?_
    clear hP hD hS
    intro H locs hP hD hS
    clear h_2
    refine lv_aload_n hx hb dX0_append_21 rfl (lv_at hl 0 rfl) ?_
    refine lv_iload_n hx hb dX0_append_22 rfl (lv_at hl 2 rfl) ?_
    obtain ⟨ξ_5, h_4, hf⟩ := b1_some hf
    refine runW_v (va_runV (As := [.int p1]) (rest := []) S (tX0_put l D d z b fl K p1 ξ_3 ξ_5 h_4 _) (cwV 1 hts (lw_V q323 q325 qs1 q94 q326) rfl rfl rfl (by decide +kernel) ⟨(Nat.le_of_ble_eq_true rfl), (Nat.le_of_ble_eq_true rfl)⟩) ⟨Pw.blind, (va_recv hK.1 hP (ci := 1) (q0 := 0) rfl rfl), fun U hU hW => Pw.at hK hP hD hZ hS hA hU hW⟩ rfl rfl hl.1 rfl (lv_room (Nat.le_of_ble_eq_true rfl)) dX0_append_23 ⟨(Nat.le_of_ble_eq_true rfl), (Nat.le_of_ble_eq_true rfl)⟩) hP hD hS hA ?_
    clear hP hD hS
    intro H locs hP hD hS
    clear h_4
    refine lv_aload_n hx hb dX0_append_26 rfl (lv_at hl 0 rfl) ?_
    refine lv_iload_n hx hb dX0_append_27 rfl (lv_at hl 3 rfl) ?_
    obtain ⟨ξ_7, h_6, hf⟩ := b1_some hf
    refine runW_v (va_runV (As := [.int p2]) (rest := []) S (tX0_put l D d z b fl K p2 ξ_5 ξ_7 h_6 _) (cwV 1 hts (lw_V q323 q325 qs1 q94 q326) rfl rfl rfl (by decide +kernel) ⟨(Nat.le_of_ble_eq_true rfl), (Nat.le_of_ble_eq_true rfl)⟩) ⟨Pw.blind, (va_recv hK.1 hP (ci := 1) (q0 := 0) rfl rfl), fun U hU hW => Pw.at hK hP hD hZ hS hA hU hW⟩ rfl rfl hl.1 rfl (lv_room (Nat.le_of_ble_eq_true rfl)) dX0_append_28 ⟨(Nat.le_of_ble_eq_true rfl), (Nat.le_of_ble_eq_true rfl)⟩) hP hD hS hA ?_
    clear hP hD hS
    intro H locs hP hD hS
    clear h_6
    refine lv_aload_n hx hb dX0_append_31 rfl (lv_at hl 0 rfl) ?_
    refine lv_iload hx hb dX0_append_32 (lv_at hl 4 rfl) ?_
    obtain ⟨ξ_9, h_8, hf⟩ := b1_some hf
    refine runW_v (va_runV (As := [.int p3]) (rest := []) S (tX0_put l D d z b fl K p3 ξ_7 ξ_9 h_8 _) (cwV 1 hts (lw_V q323 q325 qs1 q94 q326) rfl rfl rfl (by decide +kernel) ⟨(Nat.le_of_ble_eq_true rfl), (Nat.le_of_ble_eq_true rfl)⟩) ⟨Pw.blind, (va_recv hK.1 hP (ci := 1) (q0 := 0) rfl rfl), fun U hU hW => Pw.at hK hP hD hZ hS hA hU hW⟩ rfl rfl hl.1 rfl (lv_room (Nat.le_of_ble_eq_true rfl)) dX0_append_34 ⟨(Nat.le_of_ble_eq_true rfl), (Nat.le_of_ble_eq_true rfl)⟩) hP hD hS hA ?_
    clear hP hD hS
    intro H locs hP hD hS
    clear h_8
    refine lv_aload_n hx hb dX0_append_37 rfl (lv_at hl 0 rfl) ?_
    refine lv_iload hx hb dX0_append_38 (lv_at hl 5 rfl) ?_
    obtain ⟨ξ_11, h_10, hf⟩ := b1_some hf
    refine runW_v (va_runV (As := [.int p4]) (rest := []) S (tX0_put l D d z b fl K p4 ξ_9 ξ_11 h_10 _) (cwV 1 hts (lw_V q323 q325 qs1 q94 q326) rfl rfl rfl (by decide +kernel) ⟨(Nat.le_of_ble_eq_true rfl), (Nat.le_of_ble_eq_true rfl)⟩) ⟨Pw.blind, (va_recv hK.1 hP (ci := 1) (q0 := 0) rfl rfl), fun U hU hW => Pw.at hK hP hD hZ hS hA hU hW⟩ rfl rfl hl.1 rfl (lv_room (Nat.le_of_ble_eq_true rfl)) dX0_append_40 ⟨(Nat.le_of_ble_eq_true rfl), (Nat.le_of_ble_eq_true rfl)⟩) hP hD hS hA ?_
    clear hP hD hS
    intro H locs hP hD hS
    clear h_10
    refine lv_aload_n hx hb dX0_append_43 rfl (lv_at hl 0 rfl) ?_
    refine g_get hx hb hts S.2.2.2.1 hK hP in_X0 0 rfl rfl 1 (by decide) q280 (fun _ h9 => h9) (v := .int (ξ_11.1 1)) rfl dX0_append_44 ?_
    refine W.widen (k := 0) (n := 0) (Nat.le_of_ble_eq_true rfl) (Nat.le_of_ble_eq_true rfl) ?_
    exact hret _ _ _ _ _ _ hf dX0_append_47 hP hD hS
  · replace hf := it_f hf c_1
    clear c_1
    refine lv_bipush (v := -2) hx hb dX0_append_13 (by decide) ?_
    refine W.widen (k := 0) (n := 0) (Nat.le_of_ble_eq_true rfl) (Nat.le_of_ble_eq_true rfl) ?_
    exact hret _ _ _ _ _ _ hf dX0_append_15 hP hD hS
def fX0_appendu (K : Nat) (p0 : Int32) (p1 : Int32) (p2 : Int32) (p3 : Int32) (p4 : Int32) (μ : XS) : Option (Int32 × XS) :=
  if ((μ.1 1) + (20 : Int32)) ≤ (500 : Int32) then
    b1 (fX0_putu K p0 μ) fun ξ_3 =>
    b1 (fX0_putu K p1 ξ_3) fun ξ_5 =>
    b1 (fX0_putu K p2 ξ_5) fun ξ_7 =>
    b1 (fX0_putu K p3 ξ_7) fun ξ_9 =>
    b1 (fX0_putu K p4 ξ_9) fun ξ_11 =>
    some (ξ_11.1 1, ξ_11)
  else
    some ((-2 : Int32), μ)
set_option maxHeartbeats 4000000 in
set_option maxRecDepth 100000 in
theorem tX0_appendu (l : Launch) (D : va_G) (d : Nat → ClassId) (z : ZT) (b : Nat → Nat) (fl : Option Nat) (K : Nat) (p0 : Int32) (p1 : Int32) (p2 : Int32) (p3 : Int32) (p4 : Int32) (μ : XS) (r : Int32) (μ' : XS) (hf : fX0_appendu K p0 p1 p2 p3 p4 μ = some (r, μ')) : CI l yX0_append (ws_ yX0_append cX0_append 6 (Option.some Jvm.ClassFile.FieldType.int)) (rmc 1 0 0 22) D d z [.ref (b 0), .int p0, .int p1, .int p2, .int p3, .int p4] (XU d z b fl μ) r (XU d z b fl μ') := by
  refine CI.of2 (own := RX0) rfl (by decide) (Nat.le_of_ble_eq_true rfl) rfl ?_
  intro p e s m args below meth c A Q ls S hin hK hP hD hZ hS hA hl hret0
  have hret : ∀ (x : Int32) (μx : XS) (H : Heap) (locs : List Loc) (pc : Nat) (ls' : Array Slot), some (x, μx) = some (r, μ') → decode cX0_append pc = .ok (.ireturn, 1) → va_P D CL (XU d z b fl μx) H → va_D A (XU d z b fl μx) → va_S A s.heap H locs → W p l e (rmc 1 0 0 22) s m args below meth c H locs 0 0 Q (F0 m pc ls' [.int x]) := by
    intro x μx H locs pc ls' h9 hdg hP hD hS
    obtain ⟨rfl, rfl⟩ := so_2 h9
    exact hret0 H locs pc ls' hdg hP hD hS
  have hx := S.1
  have hb := S.2.1
  have hts := S.2.2.2.2
  have hl : lv_has ls 6 [(0, .ref (b 0)), (1, .int p0), (2, .int p1), (3, .int p2), (4, .int p3), (5, .int p4)] := hl
  unfold fX0_appendu at hf
  refine lv_aload_n hx hb dX0_append_0 rfl (lv_at hl 0 rfl) ?_
  refine g_get hx hb hts S.2.2.2.1 hK hP in_X0 0 rfl rfl 1 (by decide) q280 (fun _ h9 => h9) (v := .int (μ.1 1)) rfl dX0_append_1 ?_
  refine lv_bipush (v := 20) hx hb dX0_append_4 (by decide) ?_
  refine lv_iadd hx hb dX0_append_6 ?_
  refine lv_sipush (v := 500) hx hb dX0_append_7 (by decide) ?_
  refine lv_icmp_le (tgt := 16) hx hb dX0_append_10 (by decide) (fun c_1 => ?_) (fun c_1 => ?_)
  · replace hf := it_t hf c_1
    clear c_1
    refine lv_aload_n hx hb dX0_append_16 rfl (lv_at hl 0 rfl) ?_
    refine lv_iload_n hx hb dX0_append_17 rfl (lv_at hl 1 rfl) ?_
    obtain ⟨ξ_3, h_2, hf⟩ := b1_some hf
    refine runW_v (va_runV (As := [.int p0]) (rest := []) S (tX0_putu l D d z b fl K p0 μ ξ_3 h_2 _) (cwV 1 hts (lw_V q323 q325 qs1 q94 q326) rfl rfl rfl (by decide +kernel) ⟨(Nat.le_of_ble_eq_true rfl), (Nat.le_of_ble_eq_true rfl)⟩) ⟨Pw.blind, (va_recv hK.1 hP (ci := 1) (q0 := 0) rfl rfl), fun U hU hW => Pw.at hK hP hD hZ hS hA hU hW⟩ rfl rfl hl.1 rfl (lv_room (Nat.le_of_ble_eq_true rfl)) dX0_append_18 ⟨(Nat.le_of_ble_eq_true rfl), (Nat.le_of_ble_eq_true rfl)⟩) hP hD hS hA ?_
    clear hP hD hS
    intro H locs hP hD hS
    clear h_2
    refine lv_aload_n hx hb dX0_append_21 rfl (lv_at hl 0 rfl) ?_
    refine lv_iload_n hx hb dX0_append_22 rfl (lv_at hl 2 rfl) ?_
    obtain ⟨ξ_5, h_4, hf⟩ := b1_some hf
    refine runW_v (va_runV (As := [.int p1]) (rest := []) S (tX0_putu l D d z b fl K p1 ξ_3 ξ_5 h_4 _) (cwV 1 hts (lw_V q323 q325 qs1 q94 q326) rfl rfl rfl (by decide +kernel) ⟨(Nat.le_of_ble_eq_true rfl), (Nat.le_of_ble_eq_true rfl)⟩) ⟨Pw.blind, (va_recv hK.1 hP (ci := 1) (q0 := 0) rfl rfl), fun U hU hW => Pw.at hK hP hD hZ hS hA hU hW⟩ rfl rfl hl.1 rfl (lv_room (Nat.le_of_ble_eq_true rfl)) dX0_append_23 ⟨(Nat.le_of_ble_eq_true rfl), (Nat.le_of_ble_eq_true rfl)⟩) hP hD hS hA ?_
    clear hP hD hS
    intro H locs hP hD hS
    clear h_4
    refine lv_aload_n hx hb dX0_append_26 rfl (lv_at hl 0 rfl) ?_
    refine lv_iload_n hx hb dX0_append_27 rfl (lv_at hl 3 rfl) ?_
    obtain ⟨ξ_7, h_6, hf⟩ := b1_some hf
    refine runW_v (va_runV (As := [.int p2]) (rest := []) S (tX0_putu l D d z b fl K p2 ξ_5 ξ_7 h_6 _) (cwV 1 hts (lw_V q323 q325 qs1 q94 q326) rfl rfl rfl (by decide +kernel) ⟨(Nat.le_of_ble_eq_true rfl), (Nat.le_of_ble_eq_true rfl)⟩) ⟨Pw.blind, (va_recv hK.1 hP (ci := 1) (q0 := 0) rfl rfl), fun U hU hW => Pw.at hK hP hD hZ hS hA hU hW⟩ rfl rfl hl.1 rfl (lv_room (Nat.le_of_ble_eq_true rfl)) dX0_append_28 ⟨(Nat.le_of_ble_eq_true rfl), (Nat.le_of_ble_eq_true rfl)⟩) hP hD hS hA ?_
    clear hP hD hS
    intro H locs hP hD hS
    clear h_6
    refine lv_aload_n hx hb dX0_append_31 rfl (lv_at hl 0 rfl) ?_
    refine lv_iload hx hb dX0_append_32 (lv_at hl 4 rfl) ?_
    obtain ⟨ξ_9, h_8, hf⟩ := b1_some hf
    refine runW_v (va_runV (As := [.int p3]) (rest := []) S (tX0_putu l D d z b fl K p3 ξ_7 ξ_9 h_8 _) (cwV 1 hts (lw_V q323 q325 qs1 q94 q326) rfl rfl rfl (by decide +kernel) ⟨(Nat.le_of_ble_eq_true rfl), (Nat.le_of_ble_eq_true rfl)⟩) ⟨Pw.blind, (va_recv hK.1 hP (ci := 1) (q0 := 0) rfl rfl), fun U hU hW => Pw.at hK hP hD hZ hS hA hU hW⟩ rfl rfl hl.1 rfl (lv_room (Nat.le_of_ble_eq_true rfl)) dX0_append_34 ⟨(Nat.le_of_ble_eq_true rfl), (Nat.le_of_ble_eq_true rfl)⟩) hP hD hS hA ?_
    clear hP hD hS
    intro H locs hP hD hS
    clear h_8
    refine lv_aload_n hx hb dX0_append_37 rfl (lv_at hl 0 rfl) ?_
    refine lv_iload hx hb dX0_append_38 (lv_at hl 5 rfl) ?_
    obtain ⟨ξ_11, h_10, hf⟩ := b1_some hf
    refine runW_v (va_runV (As := [.int p4]) (rest := []) S (tX0_putu l D d z b fl K p4 ξ_9 ξ_11 h_10 _) (cwV 1 hts (lw_V q323 q325 qs1 q94 q326) rfl rfl rfl (by decide +kernel) ⟨(Nat.le_of_ble_eq_true rfl), (Nat.le_of_ble_eq_true rfl)⟩) ⟨Pw.blind, (va_recv hK.1 hP (ci := 1) (q0 := 0) rfl rfl), fun U hU hW => Pw.at hK hP hD hZ hS hA hU hW⟩ rfl rfl hl.1 rfl (lv_room (Nat.le_of_ble_eq_true rfl)) dX0_append_40 ⟨(Nat.le_of_ble_eq_true rfl), (Nat.le_of_ble_eq_true rfl)⟩) hP hD hS hA ?_
    clear hP hD hS
    intro H locs hP hD hS
    clear h_10
    refine lv_aload_n hx hb dX0_append_43 rfl (lv_at hl 0 rfl) ?_
    refine g_get hx hb hts S.2.2.2.1 hK hP in_X0 0 rfl rfl 1 (by decide) q280 (fun _ h9 => h9) (v := .int (ξ_11.1 1)) rfl dX0_append_44 ?_
    refine W.widen (k := 0) (n := 0) (Nat.le_of_ble_eq_true rfl) (Nat.le_of_ble_eq_true rfl) ?_
    exact hret _ _ _ _ _ _ hf dX0_append_47 hP hD hS
  · replace hf := it_f hf c_1
    clear c_1
    refine lv_bipush (v := -2) hx hb dX0_append_13 (by decide) ?_
    refine W.widen (k := 0) (n := 0) (Nat.le_of_ble_eq_true rfl) (Nat.le_of_ble_eq_true rfl) ?_
    exact hret _ _ _ _ _ _ hf dX0_append_15 hP hD hS
def fX0_truncate (K : Nat) (p0 : Int32) (μ : XS) : Option (Int32 × XS) :=
  b1 (fX0_isIn K p0 (0 : Int32) (μ.1 1)) fun r_1 =>
  if r_1 = true then
    nm (xI μ 1 p0) fun ξ_4 =>
    some (ξ_4.1 1, ξ_4)
  else
    some ((-1 : Int32), μ)
set_option maxHeartbeats 4000000 in
set_option maxRecDepth 100000 in
theorem tX0_truncate (l : Launch) (D : va_G) (d : Nat → ClassId) (z : ZT) (b : Nat → Nat) (fl : Option Nat) (K : Nat) (p0 : Int32) (μ : XS) (r : Int32) (μ' : XS) (hf : fX0_truncate K p0 μ = some (r, μ')) : CI l yX0_truncate (ws_ yX0_truncate cX0_truncate 2 (Option.some Jvm.ClassFile.FieldType.int)) (rmc 1 0 0 22) D d z [.ref (b 0), .int p0] (XP d z b fl μ) r (XP d z b fl μ') := by
  refine CI.of2 (own := RX0) rfl (by decide) (Nat.le_of_ble_eq_true rfl) rfl ?_
  intro p e s m args below meth c A Q ls S hin hK hP hD hZ hS hA hl hret0
  have hret : ∀ (x : Int32) (μx : XS) (H : Heap) (locs : List Loc) (pc : Nat) (ls' : Array Slot), some (x, μx) = some (r, μ') → decode cX0_truncate pc = .ok (.ireturn, 1) → va_P D CL (XP d z b fl μx) H → va_D A (XP d z b fl μx) → va_S A s.heap H locs → W p l e (rmc 1 0 0 22) s m args below meth c H locs 0 0 Q (F0 m pc ls' [.int x]) := by
    intro x μx H locs pc ls' h9 hdg hP hD hS
    obtain ⟨rfl, rfl⟩ := so_2 h9
    exact hret0 H locs pc ls' hdg hP hD hS
  have hx := S.1
  have hb := S.2.1
  have hts := S.2.2.2.2
  have hl : lv_has ls 2 [(0, .ref (b 0)), (1, .int p0)] := hl
  unfold fX0_truncate at hf
  refine lv_iload_n hx hb dX0_truncate_0 rfl (lv_at hl 1 rfl) ?_
  refine lv_iconst (v := 0) hx hb dX0_truncate_1 (by decide) ?_
  refine lv_aload_n hx hb dX0_truncate_2 rfl (lv_at hl 0 rfl) ?_
  refine g_get hx hb hts S.2.2.2.1 hK hP in_X0 0 rfl rfl 1 (by decide) q280 (fun _ h9 => h9) (v := .int (μ.1 1)) rfl dX0_truncate_3 ?_
  obtain ⟨r_1, h_2, hf⟩ := b1_some hf
  refine si_call S (tX0_isIn l K p0 (0 : Int32) (μ.1 1) _ h_2) (va_cwS 3 hts (lw_S q331 q332 q94 q333) rfl rfl rfl (by decide +kernel) ⟨(Nat.le_of_ble_eq_true rfl), (Nat.le_of_ble_eq_true rfl)⟩) rfl hl.1 rfl (Nat.le_of_ble_eq_true rfl) ⟨(Nat.le_of_ble_eq_true rfl), (Nat.le_of_ble_eq_true rfl)⟩ dX0_truncate_6 ?_
  clear h_2
  refine lv_if_ne (tgt := 14) hx hb dX0_truncate_9 (by decide) (fun c_3 => ?_) (fun c_3 => ?_)
  · replace hf := it_t hf (bi_n0 c_3)
    clear c_3
    refine lv_aload_n hx hb dX0_truncate_14 rfl (lv_at hl 0 rfl) ?_
    refine lv_iload_n hx hb dX0_truncate_15 rfl (lv_at hl 1 rfl) ?_
    obtain ⟨ξ_4, e_ξ_4⟩ : ∃ x, x = xI μ 1 p0 := ⟨_, rfl⟩
    refine g_put hx hb hts S.2.2.2.1 hK hP hD hS in_X0 tyX0 tyX0_ok nmX0 0 rfl rfl 1 (by decide) q280 (fun _ h9 => h9) rfl (v := .int p0) rfl rfl rfl (Nat.le_of_ble_eq_true rfl) (w' := XP d z b fl ξ_4) (by subst e_ξ_4; rfl) dX0_truncate_16 ?_
    clear hP hD hS
    intro H locs hP hD hS
    replace hf := nm_some hf ξ_4 e_ξ_4
    clear e_ξ_4
    refine lv_aload_n hx hb dX0_truncate_19 rfl (lv_at hl 0 rfl) ?_
    refine g_get hx hb hts S.2.2.2.1 hK hP in_X0 0 rfl rfl 1 (by decide) q280 (fun _ h9 => h9) (v := .int (ξ_4.1 1)) rfl dX0_truncate_20 ?_
    refine W.widen (k := 0) (n := 0) (Nat.le_of_ble_eq_true rfl) (Nat.le_of_ble_eq_true rfl) ?_
    exact hret _ _ _ _ _ _ hf dX0_truncate_23 hP hD hS
  · replace hf := it_f hf (bi_e0 c_3)
    clear c_3
    refine lv_iconst (v := -1) hx hb dX0_truncate_12 (by decide) ?_
    refine W.widen (k := 0) (n := 0) (Nat.le_of_ble_eq_true rfl) (Nat.le_of_ble_eq_true rfl) ?_
    exact hret _ _ _ _ _ _ hf dX0_truncate_13 hP hD hS
def fX0_truncateu (K : Nat) (p0 : Int32) (μ : XS) : Option (Int32 × XS) :=
  b1 (fX0_isIn K p0 (0 : Int32) (μ.1 1)) fun r_1 =>
  if r_1 = true then
    nm (xI μ 1 p0) fun ξ_4 =>
    some (ξ_4.1 1, ξ_4)
  else
    some ((-1 : Int32), μ)
set_option maxHeartbeats 4000000 in
set_option maxRecDepth 100000 in
theorem tX0_truncateu (l : Launch) (D : va_G) (d : Nat → ClassId) (z : ZT) (b : Nat → Nat) (fl : Option Nat) (K : Nat) (p0 : Int32) (μ : XS) (r : Int32) (μ' : XS) (hf : fX0_truncateu K p0 μ = some (r, μ')) : CI l yX0_truncate (ws_ yX0_truncate cX0_truncate 2 (Option.some Jvm.ClassFile.FieldType.int)) (rmc 1 0 0 22) D d z [.ref (b 0), .int p0] (XU d z b fl μ) r (XU d z b fl μ') := by
  refine CI.of2 (own := RX0) rfl (by decide) (Nat.le_of_ble_eq_true rfl) rfl ?_
  intro p e s m args below meth c A Q ls S hin hK hP hD hZ hS hA hl hret0
  have hret : ∀ (x : Int32) (μx : XS) (H : Heap) (locs : List Loc) (pc : Nat) (ls' : Array Slot), some (x, μx) = some (r, μ') → decode cX0_truncate pc = .ok (.ireturn, 1) → va_P D CL (XU d z b fl μx) H → va_D A (XU d z b fl μx) → va_S A s.heap H locs → W p l e (rmc 1 0 0 22) s m args below meth c H locs 0 0 Q (F0 m pc ls' [.int x]) := by
    intro x μx H locs pc ls' h9 hdg hP hD hS
    obtain ⟨rfl, rfl⟩ := so_2 h9
    exact hret0 H locs pc ls' hdg hP hD hS
  have hx := S.1
  have hb := S.2.1
  have hts := S.2.2.2.2
  have hl : lv_has ls 2 [(0, .ref (b 0)), (1, .int p0)] := hl
  unfold fX0_truncateu at hf
  refine lv_iload_n hx hb dX0_truncate_0 rfl (lv_at hl 1 rfl) ?_
  refine lv_iconst (v := 0) hx hb dX0_truncate_1 (by decide) ?_
  refine lv_aload_n hx hb dX0_truncate_2 rfl (lv_at hl 0 rfl) ?_
  refine g_get hx hb hts S.2.2.2.1 hK hP in_X0 0 rfl rfl 1 (by decide) q280 (fun _ h9 => h9) (v := .int (μ.1 1)) rfl dX0_truncate_3 ?_
  obtain ⟨r_1, h_2, hf⟩ := b1_some hf
  refine si_call S (tX0_isIn l K p0 (0 : Int32) (μ.1 1) _ h_2) (va_cwS 3 hts (lw_S q331 q332 q94 q333) rfl rfl rfl (by decide +kernel) ⟨(Nat.le_of_ble_eq_true rfl), (Nat.le_of_ble_eq_true rfl)⟩) rfl hl.1 rfl (Nat.le_of_ble_eq_true rfl) ⟨(Nat.le_of_ble_eq_true rfl), (Nat.le_of_ble_eq_true rfl)⟩ dX0_truncate_6 ?_
  clear h_2
  refine lv_if_ne (tgt := 14) hx hb dX0_truncate_9 (by decide) (fun c_3 => ?_) (fun c_3 => ?_)
  · replace hf := it_t hf (bi_n0 c_3)
    clear c_3
    refine lv_aload_n hx hb dX0_truncate_14 rfl (lv_at hl 0 rfl) ?_
    refine lv_iload_n hx hb dX0_truncate_15 rfl (lv_at hl 1 rfl) ?_
    obtain ⟨ξ_4, e_ξ_4⟩ : ∃ x, x = xI μ 1 p0 := ⟨_, rfl⟩
    refine g_put hx hb hts S.2.2.2.1 hK hP hD hS in_X0 tyX0 tyX0_ok nmX0 0 rfl rfl 1 (by decide) q280 (fun _ h9 => h9) rfl (v := .int p0) rfl rfl rfl (Nat.le_of_ble_eq_true rfl) (w' := XU d z b fl ξ_4) (by subst e_ξ_4; rfl) dX0_truncate_16 ?_
    clear hP hD hS
    intro H locs hP hD hS
    replace hf := nm_some hf ξ_4 e_ξ_4
    clear e_ξ_4
    refine lv_aload_n hx hb dX0_truncate_19 rfl (lv_at hl 0 rfl) ?_
    refine g_get hx hb hts S.2.2.2.1 hK hP in_X0 0 rfl rfl 1 (by decide) q280 (fun _ h9 => h9) (v := .int (ξ_4.1 1)) rfl dX0_truncate_20 ?_
    refine W.widen (k := 0) (n := 0) (Nat.le_of_ble_eq_true rfl) (Nat.le_of_ble_eq_true rfl) ?_
    exact hret _ _ _ _ _ _ hf dX0_truncate_23 hP hD hS
  · replace hf := it_f hf (bi_e0 c_3)
    clear c_3
    refine lv_iconst (v := -1) hx hb dX0_truncate_12 (by decide) ?_
    refine W.widen (k := 0) (n := 0) (Nat.le_of_ble_eq_true rfl) (Nat.le_of_ble_eq_true rfl) ?_
    exact hret _ _ _ _ _ _ hf dX0_truncate_13 hP hD hS
def fX0_errorPosition (K : Nat) (μ : XS) : Option (Int32 × XS) :=
  some (μ.1 2, μ)
set_option maxHeartbeats 4000000 in
set_option maxRecDepth 100000 in
theorem tX0_errorPosition (l : Launch) (D : va_G) (d : Nat → ClassId) (z : ZT) (b : Nat → Nat) (fl : Option Nat) (K : Nat) (μ : XS) (r : Int32) (μ' : XS) (hf : fX0_errorPosition K μ = some (r, μ')) : CI l yX0_errorPosition (ws_ yX0_errorPosition cX0_errorPosition 1 (Option.some Jvm.ClassFile.FieldType.int)) (rmc 0 0 0 0) D d z [.ref (b 0)] (XP d z b fl μ) r (XP d z b fl μ') := by
  refine CI.of2 (own := RX0) rfl (by decide) (Nat.le_of_ble_eq_true rfl) rfl ?_
  intro p e s m args below meth c A Q ls S hin hK hP hD hZ hS hA hl hret0
  have hret : ∀ (x : Int32) (μx : XS) (H : Heap) (locs : List Loc) (pc : Nat) (ls' : Array Slot), some (x, μx) = some (r, μ') → decode cX0_errorPosition pc = .ok (.ireturn, 1) → va_P D CL (XP d z b fl μx) H → va_D A (XP d z b fl μx) → va_S A s.heap H locs → W p l e (rmc 0 0 0 0) s m args below meth c H locs 0 0 Q (F0 m pc ls' [.int x]) := by
    intro x μx H locs pc ls' h9 hdg hP hD hS
    obtain ⟨rfl, rfl⟩ := so_2 h9
    exact hret0 H locs pc ls' hdg hP hD hS
  have hx := S.1
  have hb := S.2.1
  have hts := S.2.2.2.2
  have hl : lv_has ls 1 [(0, .ref (b 0))] := hl
  unfold fX0_errorPosition at hf
  refine lv_aload_n hx hb dX0_errorPosition_0 rfl (lv_at hl 0 rfl) ?_
  refine g_get hx hb hts S.2.2.2.1 hK hP in_X0 0 rfl rfl 2 (by decide) q281 (fun _ h9 => h9) (v := .int (μ.1 2)) rfl dX0_errorPosition_1 ?_
  refine W.widen (k := 0) (n := 0) (Nat.le_of_ble_eq_true rfl) (Nat.le_of_ble_eq_true rfl) ?_
  exact hret _ _ _ _ _ _ hf dX0_errorPosition_4 hP hD hS
def fX0_errorPositionu (K : Nat) (μ : XS) : Option (Int32 × XS) :=
  some (μ.1 2, μ)
set_option maxHeartbeats 4000000 in
set_option maxRecDepth 100000 in
theorem tX0_errorPositionu (l : Launch) (D : va_G) (d : Nat → ClassId) (z : ZT) (b : Nat → Nat) (fl : Option Nat) (K : Nat) (μ : XS) (r : Int32) (μ' : XS) (hf : fX0_errorPositionu K μ = some (r, μ')) : CI l yX0_errorPosition (ws_ yX0_errorPosition cX0_errorPosition 1 (Option.some Jvm.ClassFile.FieldType.int)) (rmc 0 0 0 0) D d z [.ref (b 0)] (XU d z b fl μ) r (XU d z b fl μ') := by
  refine CI.of2 (own := RX0) rfl (by decide) (Nat.le_of_ble_eq_true rfl) rfl ?_
  intro p e s m args below meth c A Q ls S hin hK hP hD hZ hS hA hl hret0
  have hret : ∀ (x : Int32) (μx : XS) (H : Heap) (locs : List Loc) (pc : Nat) (ls' : Array Slot), some (x, μx) = some (r, μ') → decode cX0_errorPosition pc = .ok (.ireturn, 1) → va_P D CL (XU d z b fl μx) H → va_D A (XU d z b fl μx) → va_S A s.heap H locs → W p l e (rmc 0 0 0 0) s m args below meth c H locs 0 0 Q (F0 m pc ls' [.int x]) := by
    intro x μx H locs pc ls' h9 hdg hP hD hS
    obtain ⟨rfl, rfl⟩ := so_2 h9
    exact hret0 H locs pc ls' hdg hP hD hS
  have hx := S.1
  have hb := S.2.1
  have hts := S.2.2.2.2
  have hl : lv_has ls 1 [(0, .ref (b 0))] := hl
  unfold fX0_errorPositionu at hf
  refine lv_aload_n hx hb dX0_errorPosition_0 rfl (lv_at hl 0 rfl) ?_
  refine g_get hx hb hts S.2.2.2.1 hK hP in_X0 0 rfl rfl 2 (by decide) q281 (fun _ h9 => h9) (v := .int (μ.1 2)) rfl dX0_errorPosition_1 ?_
  refine W.widen (k := 0) (n := 0) (Nat.le_of_ble_eq_true rfl) (Nat.le_of_ble_eq_true rfl) ?_
  exact hret _ _ _ _ _ _ hf dX0_errorPosition_4 hP hD hS
