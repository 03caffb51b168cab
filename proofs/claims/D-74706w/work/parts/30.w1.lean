/-! constructors of the lists; a copy of the state -/
set_option maxRecDepth 100000
set_option maxHeartbeats 4000000 in
set_option maxRecDepth 100000 in
theorem tJ1_init_J14 (l : Launch) (D : va_G) (d : Nat → ClassId) (z : ZT) (o : Nat) : CVS l yJ1_init (ws_ yJ1_init cJ1_init 1 (Option.none : Option Jvm.ClassFile.FieldType)) (rmc 1 0 0 12) D d z [.ref o] ([(o, .inr (18, [.int (0 : Int32), .null, .int (0 : Int32)]))]) (fun u : UU => [(o, .inr (18, [.int (0 : Int32), .null, .int (0 : Int32)]))]) (fun _ => True) := by
  refine CVS.of (rt := .int) (own := RJ1) rfl (by decide) (Nat.le_of_ble_eq_true rfl) ?_
  intro p e s m args below meth c A Q ls S hin hK hP hD hZ hS hA hl hret0
  have hx := S.1
  have hb := S.2.1
  have hts := S.2.2.2.2
  have hl : lv_has ls 1 [(0, .ref o)] := hl
  refine lv_aload_n hx hb dJ1_init_0 rfl (lv_at hl 0 rfl) ?_
  refine W.objInit hx hb S.2.2.2.1 (hts _ q264) (hts _ q136) (hts _ q137) rfl (by rw [S.2.2.1]; exact hl.1) rfl dJ1_init_1 (Nat.le_of_ble_eq_true rfl) (Nat.le_of_ble_eq_true rfl) ?_
  refine W.eq (g2 := F0 m 4 ls []) rfl ?_
  refine W.widen (k := 0) (n := 0) (Nat.le_of_ble_eq_true rfl) (Nat.le_of_ble_eq_true rfl) ?_
  exact hret0 (fun _ => 0) trivial _ _ _ _ dJ1_init_4 hP hD hS
set_option maxHeartbeats 4000000 in
set_option maxRecDepth 100000 in
theorem tJ13_init_J14 (l : Launch) (D : va_G) (d : Nat → ClassId) (z : ZT) (o : Nat) : CVS l yJ13_init (ws_ yJ13_init cJ13_init 1 (Option.none : Option Jvm.ClassFile.FieldType)) (rmc 2 0 0 32) D d z [.ref o] ([(o, .inr (18, [.int (0 : Int32), .null, .int (0 : Int32)]))]) (fun u : UU => [(o, .inr (18, [.int (0 : Int32), .null, .int (0 : Int32)]))]) (fun _ => True) := by
  refine CVS.of (rt := .int) (own := RJ13) rfl (by decide) (Nat.le_of_ble_eq_true rfl) ?_
  intro p e s m args below meth c A Q ls S hin hK hP hD hZ hS hA hl hret0
  have hx := S.1
  have hb := S.2.1
  have hts := S.2.2.2.2
  have hl : lv_has ls 1 [(0, .ref o)] := hl
  refine lv_aload_n hx hb dJ13_init_0 rfl (lv_at hl 0 rfl) ?_
  refine run_vS0 (wr := []) (w' := fun u : UU => [(o, .inr (18, [.int (0 : Int32), .null, .int (0 : Int32)]))]) (va_runI (As := []) (rest := []) S (tJ1_init_J14 l D d z o _) (cwI 0 hts (lw_meth q263) rfl rfl rfl (hts _ q99) (hts _ q792) (hts _ q262) rfl (by decide +kernel) ⟨(Nat.le_of_ble_eq_true rfl), (Nat.le_of_ble_eq_true rfl)⟩) ⟨Pw.blind, fun U hU hW => Pw.cut (tl := []) hK (by rw [List.append_nil]; exact hP) (by rw [List.append_nil]; exact hD) hZ hS hA [0] rfl rfl hU hW⟩ rfl rfl hl.1 rfl (lv_room (Nat.le_of_ble_eq_true rfl)) dJ13_init_1 ⟨(Nat.le_of_ble_eq_true rfl), (Nat.le_of_ble_eq_true rfl)⟩) hP hD hS hA [0] [] [0] rfl rfl rfl rfl (by decide) rfl (fun _ => rfl) ?_
  clear hP hD hS
  intro u_1 _ H locs hP hD hS
  refine lv_aload_n hx hb dJ13_init_4 rfl (lv_at hl 0 rfl) ?_
  refine lv_iconst (v := 0) hx hb dJ13_init_5 (by decide) ?_
  refine g_put hx hb hts S.2.2.2.1 hK hP hD hS in_J14 tyJ14 tyJ14_ok nmJ14 0 rfl rfl 0 (by decide) q798 (fun _ h9 => h9) rfl (v := .int (0 : Int32)) rfl rfl rfl (Nat.le_of_ble_eq_true rfl) (w' := [(o, .inr (18, [.int (0 : Int32), .null, .int (0 : Int32)]))]) rfl dJ13_init_6 ?_
  clear hP hD hS
  intro H locs hP hD hS
  refine W.widen (k := 0) (n := 0) (Nat.le_of_ble_eq_true rfl) (Nat.le_of_ble_eq_true rfl) ?_
  exact hret0 (fun _ => 0) trivial _ _ _ _ dJ13_init_9 hP hD hS
set_option maxHeartbeats 4000000 in
set_option maxRecDepth 100000 in
theorem tJ14_init (l : Launch) (D : va_G) (d : Nat → ClassId) (z : ZT) (o : Nat) : CVS l yJ14_init (ws_ yJ14_init cJ14_init 2 (Option.none : Option Jvm.ClassFile.FieldType)) (rmc 3 1 16 52) D d z [.ref o, .int (16 : Int32)] ([(o, .inr (18, [.int (0 : Int32), .null, .int (0 : Int32)]))]) (fun u : UU => [(o, .inr (18, [.int (0 : Int32), .ref (u 0), .int (0 : Int32)])), ((u 0), .inl (d 4, 16, .inr (.inr (.inr (.inr (fun _ => none))))))]) (fun _ => True) := by
  refine CVS.of (rt := .int) (own := RJ14) rfl (by decide) (Nat.le_of_ble_eq_true rfl) ?_
  intro p e s m args below meth c A Q ls S hin hK hP hD hZ hS hA hl hret0
  have hx := S.1
  have hb := S.2.1
  have hts := S.2.2.2.2
  have hl : lv_has ls 2 [(0, .ref o), (1, .int (16 : Int32))] := hl
  refine lv_aload_n hx hb dJ14_init_0 rfl (lv_at hl 0 rfl) ?_
  refine run_vS0 (wr := []) (w' := fun u : UU => [(o, .inr (18, [.int (0 : Int32), .null, .int (0 : Int32)]))]) (va_runI (As := []) (rest := []) S (tJ13_init_J14 l D d z o _) (cwI 0 hts (lw_meth q791) rfl rfl rfl (hts _ q117) (hts _ q789) (hts _ q790) rfl (by decide +kernel) ⟨(Nat.le_of_ble_eq_true rfl), (Nat.le_of_ble_eq_true rfl)⟩) ⟨Pw.blind, fun U hU hW => Pw.cut (tl := []) hK (by rw [List.append_nil]; exact hP) (by rw [List.append_nil]; exact hD) hZ hS hA [0] rfl rfl hU hW⟩ rfl rfl hl.1 rfl (lv_room (Nat.le_of_ble_eq_true rfl)) dJ14_init_1 ⟨(Nat.le_of_ble_eq_true rfl), (Nat.le_of_ble_eq_true rfl)⟩) hP hD hS hA [0] [] [0] rfl rfl rfl rfl (by decide) rfl (fun _ => rfl) ?_
  clear hP hD hS
  intro u_1 _ H locs hP hD hS
  refine lv_iload_n hx hb dJ14_init_4 rfl (lv_at hl 1 rfl) ?_
  refine lv_if_le (tgt := 19) hx hb dJ14_init_5 (by decide) (fun hc => absurd hc (by decide)) (fun hc => ?_)
  clear hc
  refine lv_aload_n hx hb dJ14_init_8 rfl (lv_at hl 0 rfl) ?_
  refine lv_iload_n hx hb dJ14_init_9 rfl (lv_at hl 1 rfl) ?_
  refine g_newq hx hb hts S.2.2.2.1 hK hP hD hS hA 4 rfl q793 q266 (N' := 16) (by decide) (by decide) (by decide) (Nat.le_of_ble_eq_true rfl) (Nat.le_of_ble_eq_true rfl) (w1 := fun q => [(o, .inr (18, [.int (0 : Int32), .null, .int (0 : Int32)])), (q, .inl (d 4, 16, .inr (.inr (.inr (.inr (fun _ => none))))))]) (fun _ => rfl) dJ14_init_10 ?_
  clear hP hD hS
  intro q_2 H hP hD hS
  refine g_put hx hb hts S.2.2.2.1 hK hP hD hS in_J14 tyJ14 tyJ14_ok nmJ14 0 rfl rfl 1 (by decide) q796 (fun _ h9 => h9) rfl (v := .ref q_2) rfl rfl rfl (Nat.le_of_ble_eq_true rfl) (w' := [(o, .inr (18, [.int (0 : Int32), .ref q_2, .int (0 : Int32)])), (q_2, .inl (d 4, 16, .inr (.inr (.inr (.inr (fun _ => none))))))]) rfl dJ14_init_13 ?_
  clear hP hD hS
  intro H locs hP hD hS
  refine lv_goto (tgt := 60) hx hb dJ14_init_16 (by decide) ?_
  refine W.widen (k := 1) (n := 16) (Nat.le_of_ble_eq_true rfl) (Nat.le_of_ble_eq_true rfl) ?_
  exact hret0 (ucons q_2 (fun _ => 0)) trivial _ _ _ _ dJ14_init_60 hP hD hS
set_option maxHeartbeats 4000000 in
set_option maxRecDepth 100000 in
theorem tJ1_init_J2 (l : Launch) (D : va_G) (d : Nat → ClassId) (z : ZT) (o : Nat) : CVS l yJ1_init (ws_ yJ1_init cJ1_init 1 (Option.none : Option Jvm.ClassFile.FieldType)) (rmc 1 0 0 12) D d z [.ref o] ([(o, .inr (17, [.null, .int (0 : Int32), .int (0 : Int32)]))]) (fun u : UU => [(o, .inr (17, [.null, .int (0 : Int32), .int (0 : Int32)]))]) (fun _ => True) := by
  refine CVS.of (rt := .int) (own := RJ1) rfl (by decide) (Nat.le_of_ble_eq_true rfl) ?_
  intro p e s m args below meth c A Q ls S hin hK hP hD hZ hS hA hl hret0
  have hx := S.1
  have hb := S.2.1
  have hts := S.2.2.2.2
  have hl : lv_has ls 1 [(0, .ref o)] := hl
  refine lv_aload_n hx hb dJ1_init_0 rfl (lv_at hl 0 rfl) ?_
  refine W.objInit hx hb S.2.2.2.1 (hts _ q264) (hts _ q136) (hts _ q137) rfl (by rw [S.2.2.1]; exact hl.1) rfl dJ1_init_1 (Nat.le_of_ble_eq_true rfl) (Nat.le_of_ble_eq_true rfl) ?_
  refine W.eq (g2 := F0 m 4 ls []) rfl ?_
  refine W.widen (k := 0) (n := 0) (Nat.le_of_ble_eq_true rfl) (Nat.le_of_ble_eq_true rfl) ?_
  exact hret0 (fun _ => 0) trivial _ _ _ _ dJ1_init_4 hP hD hS
set_option maxHeartbeats 4000000 in
set_option maxRecDepth 100000 in
theorem tJ2_init (l : Launch) (D : va_G) (d : Nat → ClassId) (z : ZT) (o : Nat) : CVS l yJ2_init (ws_ yJ2_init cJ2_init 1 (Option.none : Option Jvm.ClassFile.FieldType)) (rmc 2 1 17 32) D d z [.ref o] ([(o, .inr (17, [.null, .int (0 : Int32), .int (0 : Int32)]))]) (fun u : UU => [(o, .inr (17, [.ref (u 0), .int (0 : Int32), .int (0 : Int32)])), ((u 0), .inl (d 4, 17, .inr (.inr (.inr (.inr (fun _ => none))))))]) (fun _ => True) := by
  refine CVS.of (rt := .int) (own := RJ2) rfl (by decide) (Nat.le_of_ble_eq_true rfl) ?_
  intro p e s m args below meth c A Q ls S hin hK hP hD hZ hS hA hl hret0
  have hx := S.1
  have hb := S.2.1
  have hts := S.2.2.2.2
  have hl : lv_has ls 1 [(0, .ref o)] := hl
  refine lv_aload_n hx hb dJ2_init_0 rfl (lv_at hl 0 rfl) ?_
  refine run_vS0 (wr := []) (w' := fun u : UU => [(o, .inr (17, [.null, .int (0 : Int32), .int (0 : Int32)]))]) (va_runI (As := []) (rest := []) S (tJ1_init_J2 l D d z o _) (cwI 0 hts (lw_meth q263) rfl rfl rfl (hts _ q99) (hts _ q261) (hts _ q262) rfl (by decide +kernel) ⟨(Nat.le_of_ble_eq_true rfl), (Nat.le_of_ble_eq_true rfl)⟩) ⟨Pw.blind, fun U hU hW => Pw.cut (tl := []) hK (by rw [List.append_nil]; exact hP) (by rw [List.append_nil]; exact hD) hZ hS hA [0] rfl rfl hU hW⟩ rfl rfl hl.1 rfl (lv_room (Nat.le_of_ble_eq_true rfl)) dJ2_init_1 ⟨(Nat.le_of_ble_eq_true rfl), (Nat.le_of_ble_eq_true rfl)⟩) hP hD hS hA [0] [] [0] rfl rfl rfl rfl (by decide) rfl (fun _ => rfl) ?_
  clear hP hD hS
  intro u_1 _ H locs hP hD hS
  refine lv_aload_n hx hb dJ2_init_4 rfl (lv_at hl 0 rfl) ?_
  refine lv_bipush (v := 17) hx hb dJ2_init_5 (by decide) ?_
  refine g_newq hx hb hts S.2.2.2.1 hK hP hD hS hA 4 rfl q265 q266 (N' := 17) (by decide) (by decide) (by decide) (Nat.le_of_ble_eq_true rfl) (Nat.le_of_ble_eq_true rfl) (w1 := fun q => [(o, .inr (17, [.null, .int (0 : Int32), .int (0 : Int32)])), (q, .inl (d 4, 17, .inr (.inr (.inr (.inr (fun _ => none))))))]) (fun _ => rfl) dJ2_init_7 ?_
  clear hP hD hS
  intro q_2 H hP hD hS
  refine g_put hx hb hts S.2.2.2.1 hK hP hD hS in_J2 tyJ2 tyJ2_ok nmJ2 0 rfl rfl 0 (by decide) q267 (fun _ h9 => h9) rfl (v := .ref q_2) rfl rfl rfl (Nat.le_of_ble_eq_true rfl) (w' := [(o, .inr (17, [.ref q_2, .int (0 : Int32), .int (0 : Int32)])), (q_2, .inl (d 4, 17, .inr (.inr (.inr (.inr (fun _ => none))))))]) rfl dJ2_init_10 ?_
  clear hP hD hS
  intro H locs hP hD hS
  refine W.widen (k := 1) (n := 17) (Nat.le_of_ble_eq_true rfl) (Nat.le_of_ble_eq_true rfl) ?_
  exact hret0 (ucons q_2 (fun _ => 0)) trivial _ _ _ _ dJ2_init_13 hP hD hS
noncomputable def fX8_init_2c_L92 (K : Nat) (d : Nat → ClassId) (o : Nat) (ef : va_W) : Nat → Int32 → Nat → Int32 → Int32 → Int32 → Int32 → Int32 → Nat → Int32 → Int32 → Nat → Nat → Nat → (Nat → Option Nat) → XS → Option va_W
  | 0, _, _, _, _, _, _, _, _, _, _, _, _, _, _, _ => none
  | n + 1, x92_2, q92_0, y92_0_0, y92_0_1, y92_0_2, y92_0_3, y92_0_6, q92_1, y92_1_0, y92_1_2, q92_2, q92_3, q92_4, y92_2, μ =>
    b1 (fJ14_size K (μ.1 70, μ.1 72, μ.2.2.2.2 18)) fun r_9 =>
    if r_9 ≤ x92_2 then
      some [(q92_0, .inr (8, [.int y92_0_0, .int y92_0_1, .int y92_0_2, .int y92_0_3, .ref q92_3, .ref q92_4, .int y92_0_6, .ref q92_1])), (q92_1, .inr (18, [.int y92_1_0, .ref q92_2, .int y92_1_2])), (q92_2, .inl (d 4, 16, .inr (.inr (.inr (.inr y92_2))))), (q92_3, .inl (d 0, 100, .inl (μ.2.2.1 64))), (q92_4, .inl (d 3, 100, .inl (μ.2.2.1 65)))]
    else
      b1 (fJ14_get K x92_2 (μ.1 70, μ.1 72, μ.2.2.2.2 18)) fun r_12 =>
      gaP (∃ fs, (r_12, (.inr (16, fs) : va_E)) ∈ ef) <|
      gaP (∃ fs, (r_12, (.inr (16, fs) : va_E)) ∈ ef) <|
      b2 (fJ14_add K r_12 (y92_1_0, y92_1_2, y92_2)) fun r_16 ζ_17 =>
      fX8_init_2c_L92 K d o ef n (x92_2 + (1 : Int32)) q92_0 y92_0_0 y92_0_1 y92_0_2 y92_0_3 y92_0_6 q92_1 ζ_17.1 ζ_17.2.1 q92_2 q92_3 q92_4 ζ_17.2.2 μ
noncomputable def fX8_init_2c (K : Nat) (d : Nat → ClassId) (o : Nat) (u : UU) (μ : XS) (ef : va_W) : Option va_W :=
  ask u fun q_1 u =>
  ask u fun q_3 u =>
  ga ((μ.1 63) = bi (decide ((μ.1 63) = 1))) <|
  ask u fun q_5 u =>
  gaP (∀ i, i < 100 → fits .boolean (.int (μ.2.2.1 65 i)) = true) <|
  ask u fun q_6 u =>
  fX8_init_2c_L92 K d o ef K (0 : Int32) o (μ.1 60) (μ.1 61) (μ.1 62) (μ.1 63) (μ.1 66) q_1 (0 : Int32) (0 : Int32) q_3 q_5 q_6 (fun _ => none) μ
set_option maxHeartbeats 4000000 in
set_option maxRecDepth 100000 in
theorem tX8_init_2c (l : Launch) (D : va_G) (d : Nat → ClassId) (z : ZT) (b : Nat → Nat) (es : va_W) (K : Nat) (o : Nat) (ef : va_W) (hsub : ∀ q ∈ ef, q ∈ es) (μ : XS) (y : UU → va_W) (hf : ∀ u, fX8_init_2c K d o u μ ef = some (y u)) : CVS l yX8_init_2 (ws_ yX8_init_2 cX8_init_2 3 (Option.none : Option Jvm.ClassFile.FieldType)) (rmc 4 4 219 73) D d z [.ref o, .ref (b 13)] ((SGP d b μ ++ [(o, .inr (8, [.int (0 : Int32), .int (0 : Int32), .int (0 : Int32), .int (0 : Int32), .null, .null, .int (0 : Int32), .null]))]) ++ es) (fun u : UU => SGP d b μ ++ (y u ++ es)) (fun _ => True) := by
  refine CVS.of (rt := .int) (own := RX8) rfl (by decide) (Nat.le_of_ble_eq_true rfl) ?_
  intro p e s m args below meth c A Q ls S hin hK hP hD hZ hS hA hl hret0
  have hret : ∀ (U0 : UU) (μx : va_W) (H : Heap) (locs : List Loc) (pc : Nat) (ls' : Array Slot), some μx = some (y U0) → decode cX8_init_2 pc = .ok (.return_, 1) → va_P D CL (SGP d b μ ++ (μx ++ es)) H → va_D A (SGP d b μ ++ (μx ++ es)) → va_S A s.heap H locs → W p l e (rmc 4 4 219 73) s m args below meth c H locs 4 219 Q (F0 m pc ls' []) := by
    intro U0 μx H locs pc ls' h9 hdg hP hD hS
    have h8 := hret0 U0 trivial H locs pc ls' hdg
    rw [← Option.some.inj h9] at h8
    exact h8 hP hD hS
  have hx := S.1
  have hb := S.2.1
  have hts := S.2.2.2.2
  have hl : lv_has ls 3 [(0, .ref o), (1, .ref (b 13))] := hl
  have L92 : ∀ (n : Nat) (x92_2 : Int32) (q92_0 : Nat) (y92_0_0 : Int32) (y92_0_1 : Int32) (y92_0_2 : Int32) (y92_0_3 : Int32) (y92_0_6 : Int32) (q92_1 : Nat) (y92_1_0 : Int32) (y92_1_2 : Int32) (q92_2 : Nat) (q92_3 : Nat) (q92_4 : Nat) (y92_2 : (Nat → Option Nat)) (U0 : UU) (H : Heap) (locs : List Loc) (ls : Array Slot), fX8_init_2c_L92 K d o ef n x92_2 q92_0 y92_0_0 y92_0_1 y92_0_2 y92_0_3 y92_0_6 q92_1 y92_1_0 y92_1_2 q92_2 q92_3 q92_4 y92_2 μ = some (y U0) → va_P D CL ((SGP d b μ ++ [(q92_0, .inr (8, [.int y92_0_0, .int y92_0_1, .int y92_0_2, .int y92_0_3, .ref q92_3, .ref q92_4, .int y92_0_6, .ref q92_1])), (q92_1, .inr (18, [.int y92_1_0, .ref q92_2, .int y92_1_2])), (q92_2, .inl (d 4, 16, .inr (.inr (.inr (.inr y92_2))))), (q92_3, .inl (d 0, 100, .inl (μ.2.2.1 64))), (q92_4, .inl (d 3, 100, .inl (μ.2.2.1 65)))]) ++ es) H → va_D A ((SGP d b μ ++ [(q92_0, .inr (8, [.int y92_0_0, .int y92_0_1, .int y92_0_2, .int y92_0_3, .ref q92_3, .ref q92_4, .int y92_0_6, .ref q92_1])), (q92_1, .inr (18, [.int y92_1_0, .ref q92_2, .int y92_1_2])), (q92_2, .inl (d 4, 16, .inr (.inr (.inr (.inr y92_2))))), (q92_3, .inl (d 0, 100, .inl (μ.2.2.1 64))), (q92_4, .inl (d 3, 100, .inl (μ.2.2.1 65)))]) ++ es) → va_S A s.heap H locs → lv_has ls 3 [(0, .ref q92_0), (1, .ref (b 13)), (2, .int x92_2)] → W p l e (rmc 4 4 219 73) s m args below meth c H locs 4 219 Q (F0 m 92 ls []) := by
    intro n
    induction n with
    | zero =>
      intro x92_2 q92_0 y92_0_0 y92_0_1 y92_0_2 y92_0_3 y92_0_6 q92_1 y92_1_0 y92_1_2 q92_2 q92_3 q92_4 y92_2 U0 H locs ls hf hP hD hS hl
      rw [fX8_init_2c_L92] at hf
      cases hf
    | succ n ih =>
      intro x92_2 q92_0 y92_0_0 y92_0_1 y92_0_2 y92_0_3 y92_0_6 q92_1 y92_1_0 y92_1_2 q92_2 q92_3 q92_4 y92_2 U0 H locs ls hf hP hD hS hl
      rw [fX8_init_2c_L92] at hf
      refine lv_iload_n hx hb dX8_init_2_92 rfl (lv_at hl 2 rfl) ?_
      refine lv_aload_n hx hb dX8_init_2_93 rfl (lv_at hl 1 rfl) ?_
      refine g_get hx hb hts S.2.2.2.1 hK hP in_X8 0 rfl rfl 7 (by decide) q822 (fun _ h9 => h9) (v := .ref (b 17)) rfl dX8_init_2_94 ?_
      obtain ⟨r_9, h_8, hf⟩ := b1_some hf
      have hPc := toT_P (isC := [3, 4]) (isR := [0, 1, 2, 5, 6, 7, 8, 9]) (wc := ALP d (b 17) (b 18) (μ.1 70, μ.1 72, μ.2.2.2.2 18)) (wr := [(b 13, .inr (8, [.int (μ.1 60), .int (μ.1 61), .int (μ.1 62), .int (μ.1 63), .ref (b 14), .ref (b 15), .int (μ.1 66), .ref (b 17)])), (b 14, .inl (d 0, 100, .inl (μ.2.2.1 64))), (b 15, .inl (d 3, 100, .inl (μ.2.2.1 65))), (q92_0, .inr (8, [.int y92_0_0, .int y92_0_1, .int y92_0_2, .int y92_0_3, .ref q92_3, .ref q92_4, .int y92_0_6, .ref q92_1])), (q92_1, .inr (18, [.int y92_1_0, .ref q92_2, .int y92_1_2])), (q92_2, .inl (d 4, 16, .inr (.inr (.inr (.inr y92_2))))), (q92_3, .inl (d 0, 100, .inl (μ.2.2.1 64))), (q92_4, .inl (d 3, 100, .inl (μ.2.2.1 65)))]) (w := (SGP d b μ ++ [(q92_0, .inr (8, [.int y92_0_0, .int y92_0_1, .int y92_0_2, .int y92_0_3, .ref q92_3, .ref q92_4, .int y92_0_6, .ref q92_1])), (q92_1, .inr (18, [.int y92_1_0, .ref q92_2, .int y92_1_2])), (q92_2, .inl (d 4, 16, .inr (.inr (.inr (.inr y92_2))))), (q92_3, .inl (d 0, 100, .inl (μ.2.2.1 64))), (q92_4, .inl (d 3, 100, .inl (μ.2.2.1 65)))])) (tl := es) hP rfl rfl
      have hDc := toT_D (isC := [3, 4]) (isR := [0, 1, 2, 5, 6, 7, 8, 9]) (wc := ALP d (b 17) (b 18) (μ.1 70, μ.1 72, μ.2.2.2.2 18)) (wr := [(b 13, .inr (8, [.int (μ.1 60), .int (μ.1 61), .int (μ.1 62), .int (μ.1 63), .ref (b 14), .ref (b 15), .int (μ.1 66), .ref (b 17)])), (b 14, .inl (d 0, 100, .inl (μ.2.2.1 64))), (b 15, .inl (d 3, 100, .inl (μ.2.2.1 65))), (q92_0, .inr (8, [.int y92_0_0, .int y92_0_1, .int y92_0_2, .int y92_0_3, .ref q92_3, .ref q92_4, .int y92_0_6, .ref q92_1])), (q92_1, .inr (18, [.int y92_1_0, .ref q92_2, .int y92_1_2])), (q92_2, .inl (d 4, 16, .inr (.inr (.inr (.inr y92_2))))), (q92_3, .inl (d 0, 100, .inl (μ.2.2.1 64))), (q92_4, .inl (d 3, 100, .inl (μ.2.2.1 65)))]) (w := (SGP d b μ ++ [(q92_0, .inr (8, [.int y92_0_0, .int y92_0_1, .int y92_0_2, .int y92_0_3, .ref q92_3, .ref q92_4, .int y92_0_6, .ref q92_1])), (q92_1, .inr (18, [.int y92_1_0, .ref q92_2, .int y92_1_2])), (q92_2, .inl (d 4, 16, .inr (.inr (.inr (.inr y92_2))))), (q92_3, .inl (d 0, 100, .inl (μ.2.2.1 64))), (q92_4, .inl (d 3, 100, .inl (μ.2.2.1 65)))])) (tl := es) hD rfl rfl rfl
      refine runW_i (va_runV (As := []) (rest := [.int x92_2]) S (tJ14_size l D d z (b 17) (b 18) ([(b 13, .inr (8, [.int (μ.1 60), .int (μ.1 61), .int (μ.1 62), .int (μ.1 63), .ref (b 14), .ref (b 15), .int (μ.1 66), .ref (b 17)])), (b 14, .inl (d 0, 100, .inl (μ.2.2.1 64))), (b 15, .inl (d 3, 100, .inl (μ.2.2.1 65))), (q92_0, .inr (8, [.int y92_0_0, .int y92_0_1, .int y92_0_2, .int y92_0_3, .ref q92_3, .ref q92_4, .int y92_0_6, .ref q92_1])), (q92_1, .inr (18, [.int y92_1_0, .ref q92_2, .int y92_1_2])), (q92_2, .inl (d 4, 16, .inr (.inr (.inr (.inr y92_2))))), (q92_3, .inl (d 0, 100, .inl (μ.2.2.1 64))), (q92_4, .inl (d 3, 100, .inl (μ.2.2.1 65)))] ++ es) K (μ.1 70, μ.1 72, μ.2.2.2.2 18) r_9 h_8 _) (cwV 0 hts (lw_V q937 q938 q939 q118 q940) rfl rfl rfl (by decide +kernel) ⟨(Nat.le_of_ble_eq_true rfl), (Nat.le_of_ble_eq_true rfl)⟩) ⟨Pw.blind, (va_recv hK.1 hP (ci := 18) (q0 := 3) rfl rfl), fun U hU hW => Pw.at hK hPc hDc hZ hS hA hU hW⟩ rfl rfl hl.1 rfl (lv_room (Nat.le_of_ble_eq_true rfl)) dX8_init_2_97 ⟨(Nat.le_of_ble_eq_true rfl), (Nat.le_of_ble_eq_true rfl)⟩) hPc hDc hS hA ?_
      clear hP hD hS hPc hDc
      intro H locs hP hD hS
      replace hP := ofT_P (perm := [2, 3, 4, 0, 1, 5, 6, 7, 8, 9]) (w' := (SGP d b μ ++ [(q92_0, .inr (8, [.int y92_0_0, .int y92_0_1, .int y92_0_2, .int y92_0_3, .ref q92_3, .ref q92_4, .int y92_0_6, .ref q92_1])), (q92_1, .inr (18, [.int y92_1_0, .ref q92_2, .int y92_1_2])), (q92_2, .inl (d 4, 16, .inr (.inr (.inr (.inr y92_2))))), (q92_3, .inl (d 0, 100, .inl (μ.2.2.1 64))), (q92_4, .inl (d 3, 100, .inl (μ.2.2.1 65)))])) hP rfl
      replace hD := ofT_D (perm := [2, 3, 4, 0, 1, 5, 6, 7, 8, 9]) (w' := (SGP d b μ ++ [(q92_0, .inr (8, [.int y92_0_0, .int y92_0_1, .int y92_0_2, .int y92_0_3, .ref q92_3, .ref q92_4, .int y92_0_6, .ref q92_1])), (q92_1, .inr (18, [.int y92_1_0, .ref q92_2, .int y92_1_2])), (q92_2, .inl (d 4, 16, .inr (.inr (.inr (.inr y92_2))))), (q92_3, .inl (d 0, 100, .inl (μ.2.2.1 64))), (q92_4, .inl (d 3, 100, .inl (μ.2.2.1 65)))])) hD rfl rfl
      clear h_8
      refine lv_icmp_ge (tgt := 128) hx hb dX8_init_2_100 (by decide) (fun c_10 => ?_) (fun c_10 => ?_)
      · replace hf := it_t hf c_10
        clear c_10
        refine W.widen (k := 4) (n := 219) (Nat.le_of_ble_eq_true rfl) (Nat.le_of_ble_eq_true rfl) ?_
        exact hret _ _ _ _ _ _ hf dX8_init_2_128 (by rw [List.append_assoc] at hP; exact hP) (by rw [List.append_assoc] at hD; exact hD) hS
      · replace hf := it_f hf c_10
        clear c_10
        refine lv_aload_n hx hb dX8_init_2_103 rfl (lv_at hl 0 rfl) ?_
        refine g_get hx hb hts S.2.2.2.1 hK hP in_X8 5 rfl rfl 7 (by decide) q822 (fun _ h9 => h9) (v := .ref q92_1) rfl dX8_init_2_104 ?_
        refine lv_aload_n hx hb dX8_init_2_107 rfl (lv_at hl 1 rfl) ?_
        refine g_get hx hb hts S.2.2.2.1 hK hP in_X8 0 rfl rfl 7 (by decide) q822 (fun _ h9 => h9) (v := .ref (b 17)) rfl dX8_init_2_108 ?_
        refine lv_iload_n hx hb dX8_init_2_111 rfl (lv_at hl 2 rfl) ?_
        obtain ⟨r_12, h_11, hf⟩ := b1_some hf
        have hPc := toT_P (isC := [3, 4]) (isR := [0, 1, 2, 5, 6, 7, 8, 9]) (wc := ALP d (b 17) (b 18) (μ.1 70, μ.1 72, μ.2.2.2.2 18)) (wr := [(b 13, .inr (8, [.int (μ.1 60), .int (μ.1 61), .int (μ.1 62), .int (μ.1 63), .ref (b 14), .ref (b 15), .int (μ.1 66), .ref (b 17)])), (b 14, .inl (d 0, 100, .inl (μ.2.2.1 64))), (b 15, .inl (d 3, 100, .inl (μ.2.2.1 65))), (q92_0, .inr (8, [.int y92_0_0, .int y92_0_1, .int y92_0_2, .int y92_0_3, .ref q92_3, .ref q92_4, .int y92_0_6, .ref q92_1])), (q92_1, .inr (18, [.int y92_1_0, .ref q92_2, .int y92_1_2])), (q92_2, .inl (d 4, 16, .inr (.inr (.inr (.inr y92_2))))), (q92_3, .inl (d 0, 100, .inl (μ.2.2.1 64))), (q92_4, .inl (d 3, 100, .inl (μ.2.2.1 65)))]) (w := (SGP d b μ ++ [(q92_0, .inr (8, [.int y92_0_0, .int y92_0_1, .int y92_0_2, .int y92_0_3, .ref q92_3, .ref q92_4, .int y92_0_6, .ref q92_1])), (q92_1, .inr (18, [.int y92_1_0, .ref q92_2, .int y92_1_2])), (q92_2, .inl (d 4, 16, .inr (.inr (.inr (.inr y92_2))))), (q92_3, .inl (d 0, 100, .inl (μ.2.2.1 64))), (q92_4, .inl (d 3, 100, .inl (μ.2.2.1 65)))])) (tl := es) hP rfl rfl
        have hDc := toT_D (isC := [3, 4]) (isR := [0, 1, 2, 5, 6, 7, 8, 9]) (wc := ALP d (b 17) (b 18) (μ.1 70, μ.1 72, μ.2.2.2.2 18)) (wr := [(b 13, .inr (8, [.int (μ.1 60), .int (μ.1 61), .int (μ.1 62), .int (μ.1 63), .ref (b 14), .ref (b 15), .int (μ.1 66), .ref (b 17)])), (b 14, .inl (d 0, 100, .inl (μ.2.2.1 64))), (b 15, .inl (d 3, 100, .inl (μ.2.2.1 65))), (q92_0, .inr (8, [.int y92_0_0, .int y92_0_1, .int y92_0_2, .int y92_0_3, .ref q92_3, .ref q92_4, .int y92_0_6, .ref q92_1])), (q92_1, .inr (18, [.int y92_1_0, .ref q92_2, .int y92_1_2])), (q92_2, .inl (d 4, 16, .inr (.inr (.inr (.inr y92_2))))), (q92_3, .inl (d 0, 100, .inl (μ.2.2.1 64))), (q92_4, .inl (d 3, 100, .inl (μ.2.2.1 65)))]) (w := (SGP d b μ ++ [(q92_0, .inr (8, [.int y92_0_0, .int y92_0_1, .int y92_0_2, .int y92_0_3, .ref q92_3, .ref q92_4, .int y92_0_6, .ref q92_1])), (q92_1, .inr (18, [.int y92_1_0, .ref q92_2, .int y92_1_2])), (q92_2, .inl (d 4, 16, .inr (.inr (.inr (.inr y92_2))))), (q92_3, .inl (d 0, 100, .inl (μ.2.2.1 64))), (q92_4, .inl (d 3, 100, .inl (μ.2.2.1 65)))])) (tl := es) hD rfl rfl rfl
        refine runW_rS (va_runV (As := [.int x92_2]) (rest := [.ref q92_1]) S (tJ14_get l D d z (b 17) (b 18) ([(b 13, .inr (8, [.int (μ.1 60), .int (μ.1 61), .int (μ.1 62), .int (μ.1 63), .ref (b 14), .ref (b 15), .int (μ.1 66), .ref (b 17)])), (b 14, .inl (d 0, 100, .inl (μ.2.2.1 64))), (b 15, .inl (d 3, 100, .inl (μ.2.2.1 65))), (q92_0, .inr (8, [.int y92_0_0, .int y92_0_1, .int y92_0_2, .int y92_0_3, .ref q92_3, .ref q92_4, .int y92_0_6, .ref q92_1])), (q92_1, .inr (18, [.int y92_1_0, .ref q92_2, .int y92_1_2])), (q92_2, .inl (d 4, 16, .inr (.inr (.inr (.inr y92_2))))), (q92_3, .inl (d 0, 100, .inl (μ.2.2.1 64))), (q92_4, .inl (d 3, 100, .inl (μ.2.2.1 65)))] ++ es) K x92_2 (μ.1 70, μ.1 72, μ.2.2.2.2 18) r_12 h_11 _) (cwV 1 hts (lw_V q941 q942 q943 q118 q944) rfl rfl rfl (by decide +kernel) ⟨(Nat.le_of_ble_eq_true rfl), (Nat.le_of_ble_eq_true rfl)⟩) ⟨Pw.blind, (va_recv hK.1 hP (ci := 18) (q0 := 3) rfl rfl), fun U hU hW => Pw.at hK hPc hDc hZ hS hA hU hW⟩ rfl rfl hl.1 rfl (lv_room (Nat.le_of_ble_eq_true rfl)) dX8_init_2_112 ⟨(Nat.le_of_ble_eq_true rfl), (Nat.le_of_ble_eq_true rfl)⟩) hPc hDc hS hA ?_
        clear hP hD hS hPc hDc
        intro _ _ H locs hP hD hS
        replace hP := ofT_P (perm := [2, 3, 4, 0, 1, 5, 6, 7, 8, 9]) (w' := (SGP d b μ ++ [(q92_0, .inr (8, [.int y92_0_0, .int y92_0_1, .int y92_0_2, .int y92_0_3, .ref q92_3, .ref q92_4, .int y92_0_6, .ref q92_1])), (q92_1, .inr (18, [.int y92_1_0, .ref q92_2, .int y92_1_2])), (q92_2, .inl (d 4, 16, .inr (.inr (.inr (.inr y92_2))))), (q92_3, .inl (d 0, 100, .inl (μ.2.2.1 64))), (q92_4, .inl (d 3, 100, .inl (μ.2.2.1 65)))])) hP rfl
        replace hD := ofT_D (perm := [2, 3, 4, 0, 1, 5, 6, 7, 8, 9]) (w' := (SGP d b μ ++ [(q92_0, .inr (8, [.int y92_0_0, .int y92_0_1, .int y92_0_2, .int y92_0_3, .ref q92_3, .ref q92_4, .int y92_0_6, .ref q92_1])), (q92_1, .inr (18, [.int y92_1_0, .ref q92_2, .int y92_1_2])), (q92_2, .inl (d 4, 16, .inr (.inr (.inr (.inr y92_2))))), (q92_3, .inl (d 0, 100, .inl (μ.2.2.1 64))), (q92_4, .inl (d 3, 100, .inl (μ.2.2.1 65)))])) hD rfl rfl
        clear h_11
        obtain ⟨he_13, hf⟩ := gaP_some hf
        refine g_castM (fs := he_13.choose) hx hb hts S.2.2.2.1 hK hP (ci := 16) rfl (List.mem_append_right _ (hsub _ he_13.choose_spec)) q953 dX8_init_2_115 ?_
        obtain ⟨he_14, hf⟩ := gaP_some hf
        obtain ⟨r_16, ζ_17, h_15, hf⟩ := b2_some hf
        have hPc := toT_P (isC := [6, 7]) (isR := [0, 1, 2, 3, 4, 5, 8, 9]) (wc := ALP d q92_1 q92_2 (y92_1_0, y92_1_2, y92_2)) (wr := [(b 13, .inr (8, [.int (μ.1 60), .int (μ.1 61), .int (μ.1 62), .int (μ.1 63), .ref (b 14), .ref (b 15), .int (μ.1 66), .ref (b 17)])), (b 14, .inl (d 0, 100, .inl (μ.2.2.1 64))), (b 15, .inl (d 3, 100, .inl (μ.2.2.1 65))), (b 17, .inr (18, [.int (μ.1 70), .ref (b 18), .int (μ.1 72)])), (b 18, .inl (d 4, 16, .inr (.inr (.inr (.inr (μ.2.2.2.2 18)))))), (q92_0, .inr (8, [.int y92_0_0, .int y92_0_1, .int y92_0_2, .int y92_0_3, .ref q92_3, .ref q92_4, .int y92_0_6, .ref q92_1])), (q92_3, .inl (d 0, 100, .inl (μ.2.2.1 64))), (q92_4, .inl (d 3, 100, .inl (μ.2.2.1 65)))]) (w := (SGP d b μ ++ [(q92_0, .inr (8, [.int y92_0_0, .int y92_0_1, .int y92_0_2, .int y92_0_3, .ref q92_3, .ref q92_4, .int y92_0_6, .ref q92_1])), (q92_1, .inr (18, [.int y92_1_0, .ref q92_2, .int y92_1_2])), (q92_2, .inl (d 4, 16, .inr (.inr (.inr (.inr y92_2))))), (q92_3, .inl (d 0, 100, .inl (μ.2.2.1 64))), (q92_4, .inl (d 3, 100, .inl (μ.2.2.1 65)))])) (tl := es) hP rfl rfl
        have hDc := toT_D (isC := [6, 7]) (isR := [0, 1, 2, 3, 4, 5, 8, 9]) (wc := ALP d q92_1 q92_2 (y92_1_0, y92_1_2, y92_2)) (wr := [(b 13, .inr (8, [.int (μ.1 60), .int (μ.1 61), .int (μ.1 62), .int (μ.1 63), .ref (b 14), .ref (b 15), .int (μ.1 66), .ref (b 17)])), (b 14, .inl (d 0, 100, .inl (μ.2.2.1 64))), (b 15, .inl (d 3, 100, .inl (μ.2.2.1 65))), (b 17, .inr (18, [.int (μ.1 70), .ref (b 18), .int (μ.1 72)])), (b 18, .inl (d 4, 16, .inr (.inr (.inr (.inr (μ.2.2.2.2 18)))))), (q92_0, .inr (8, [.int y92_0_0, .int y92_0_1, .int y92_0_2, .int y92_0_3, .ref q92_3, .ref q92_4, .int y92_0_6, .ref q92_1])), (q92_3, .inl (d 0, 100, .inl (μ.2.2.1 64))), (q92_4, .inl (d 3, 100, .inl (μ.2.2.1 65)))]) (w := (SGP d b μ ++ [(q92_0, .inr (8, [.int y92_0_0, .int y92_0_1, .int y92_0_2, .int y92_0_3, .ref q92_3, .ref q92_4, .int y92_0_6, .ref q92_1])), (q92_1, .inr (18, [.int y92_1_0, .ref q92_2, .int y92_1_2])), (q92_2, .inl (d 4, 16, .inr (.inr (.inr (.inr y92_2))))), (q92_3, .inl (d 0, 100, .inl (μ.2.2.1 64))), (q92_4, .inl (d 3, 100, .inl (μ.2.2.1 65)))])) (tl := es) hD rfl rfl rfl
        refine runW_i (va_runV (As := [.ref r_12]) (rest := []) S (tJ14_add l D d z q92_1 q92_2 ([(b 13, .inr (8, [.int (μ.1 60), .int (μ.1 61), .int (μ.1 62), .int (μ.1 63), .ref (b 14), .ref (b 15), .int (μ.1 66), .ref (b 17)])), (b 14, .inl (d 0, 100, .inl (μ.2.2.1 64))), (b 15, .inl (d 3, 100, .inl (μ.2.2.1 65))), (b 17, .inr (18, [.int (μ.1 70), .ref (b 18), .int (μ.1 72)])), (b 18, .inl (d 4, 16, .inr (.inr (.inr (.inr (μ.2.2.2.2 18)))))), (q92_0, .inr (8, [.int y92_0_0, .int y92_0_1, .int y92_0_2, .int y92_0_3, .ref q92_3, .ref q92_4, .int y92_0_6, .ref q92_1])), (q92_3, .inl (d 0, 100, .inl (μ.2.2.1 64))), (q92_4, .inl (d 3, 100, .inl (μ.2.2.1 65)))] ++ es) K r_12 (y92_1_0, y92_1_2, y92_2) r_16 ζ_17 h_15 (he_14.imp fun _ h => List.mem_append_right _ (hsub _ h)) _) (cwV 1 hts (lw_V q954 q955 q956 q118 q957) rfl rfl rfl (by decide +kernel) ⟨(Nat.le_of_ble_eq_true rfl), (Nat.le_of_ble_eq_true rfl)⟩) ⟨Pw.blind, (va_recv hK.1 hP (ci := 18) (q0 := 6) rfl rfl), fun U hU hW => Pw.at hK hPc hDc hZ hS hA hU hW⟩ rfl rfl hl.1 rfl (lv_room (Nat.le_of_ble_eq_true rfl)) dX8_init_2_118 ⟨(Nat.le_of_ble_eq_true rfl), (Nat.le_of_ble_eq_true rfl)⟩) hPc hDc hS hA ?_
        clear hP hD hS hPc hDc
        intro H locs hP hD hS
        replace hP := ofT_P (perm := [2, 3, 4, 5, 6, 7, 0, 1, 8, 9]) (w' := (SGP d b μ ++ [(q92_0, .inr (8, [.int y92_0_0, .int y92_0_1, .int y92_0_2, .int y92_0_3, .ref q92_3, .ref q92_4, .int y92_0_6, .ref q92_1])), (q92_1, .inr (18, [.int ζ_17.1, .ref q92_2, .int ζ_17.2.1])), (q92_2, .inl (d 4, 16, .inr (.inr (.inr (.inr ζ_17.2.2))))), (q92_3, .inl (d 0, 100, .inl (μ.2.2.1 64))), (q92_4, .inl (d 3, 100, .inl (μ.2.2.1 65)))])) hP rfl
        replace hD := ofT_D (perm := [2, 3, 4, 5, 6, 7, 0, 1, 8, 9]) (w' := (SGP d b μ ++ [(q92_0, .inr (8, [.int y92_0_0, .int y92_0_1, .int y92_0_2, .int y92_0_3, .ref q92_3, .ref q92_4, .int y92_0_6, .ref q92_1])), (q92_1, .inr (18, [.int ζ_17.1, .ref q92_2, .int ζ_17.2.1])), (q92_2, .inl (d 4, 16, .inr (.inr (.inr (.inr ζ_17.2.2))))), (q92_3, .inl (d 0, 100, .inl (μ.2.2.1 64))), (q92_4, .inl (d 3, 100, .inl (μ.2.2.1 65)))])) hD rfl rfl
        clear h_15
        refine lv_pop hx hb dX8_init_2_121 rfl ?_
        refine lv_iinc (v := x92_2 + (1 : Int32)) (lv' := [(2, .int (x92_2 + (1 : Int32))), (0, .ref q92_0), (1, .ref (b 13))]) hx hb dX8_init_2_122 hl (k := 2) rfl rfl (by decide) rfl (fun ls hl => ?_)
        refine lv_goto (tgt := 92) hx hb dX8_init_2_125 (by decide) ?_
        exact ih (x92_2 + (1 : Int32)) q92_0 y92_0_0 y92_0_1 y92_0_2 y92_0_3 y92_0_6 q92_1 ζ_17.1 ζ_17.2.1 q92_2 q92_3 q92_4 ζ_17.2.2 _ _ _ _ hf hP hD hS (lv_sub hl [1, 2, 0] rfl)
  unfold fX8_init_2c at hf
  refine lv_aload_n hx hb dX8_init_2_0 rfl (lv_at hl 0 rfl) ?_
  refine W.objInit hx hb S.2.2.2.1 (hts _ q783) (hts _ q136) (hts _ q137) rfl (by rw [S.2.2.1]; exact hl.1) rfl dX8_init_2_1 (Nat.le_of_ble_eq_true rfl) (Nat.le_of_ble_eq_true rfl) ?_
  refine W.eq (g2 := F0 m 4 ls []) rfl ?_
  refine lv_aload_n hx hb dX8_init_2_4 rfl (lv_at hl 0 rfl) ?_
  refine lv_iconst (v := 1) hx hb dX8_init_2_5 (by decide) ?_
  refine g_put hx hb hts S.2.2.2.1 hK hP hD hS in_X8 tyX8 tyX8_ok nmX8 5 rfl rfl 3 (by decide) q815 (fun _ h9 => h9) rfl (v := .int (1 : Int32)) rfl (by decide) (by decide) (Nat.le_of_ble_eq_true rfl) (w' := (SGP d b μ ++ [(o, .inr (8, [.int (0 : Int32), .int (0 : Int32), .int (0 : Int32), .int (1 : Int32), .null, .null, .int (0 : Int32), .null]))]) ++ es) rfl dX8_init_2_6 ?_
  clear hP hD hS
  intro H locs hP hD hS
  refine lv_aload_n hx hb dX8_init_2_9 rfl (lv_at hl 0 rfl) ?_
  refine g_newT (w := (SGP d b μ ++ [(o, .inr (8, [.int (0 : Int32), .int (0 : Int32), .int (0 : Int32), .int (1 : Int32), .null, .null, .int (0 : Int32), .null]))])) (tl := es) hx hb hts S.2.2.2.1 hK hP hD hS hA (ci := 18) in_J14 tyJ14 tyJ14_ok q784 q785 q118 rfl (fs := [.int (0 : Int32), .null, .int (0 : Int32)]) (fun j hj => by rcases (show j = 0 ∨ j = 1 ∨ j = 2 by omega) with rfl | rfl | rfl <;> rfl) (Nat.le_of_ble_eq_true rfl) (Nat.le_of_ble_eq_true rfl) (w1 := fun q => (SGP d b μ ++ [(o, .inr (8, [.int (0 : Int32), .int (0 : Int32), .int (0 : Int32), .int (1 : Int32), .null, .null, .int (0 : Int32), .null])), (q, .inr (18, [.int (0 : Int32), .null, .int (0 : Int32)]))])) (fun _ => rfl) dX8_init_2_10 ?_
  clear hP hD hS
  intro q_1 H hP hD hS
  replace hf := askU hf q_1
  refine lv_dup hx hb dX8_init_2_13 rfl ?_
  refine lv_bipush (v := 16) hx hb dX8_init_2_14 (by decide) ?_
  refine run_vS (w := (SGP d b μ ++ [(o, .inr (8, [.int (0 : Int32), .int (0 : Int32), .int (0 : Int32), .int (1 : Int32), .null, .null, .int (0 : Int32), .null])), (q_1, .inr (18, [.int (0 : Int32), .null, .int (0 : Int32)]))])) (tl := es) (wr := [(b 13, .inr (8, [.int (μ.1 60), .int (μ.1 61), .int (μ.1 62), .int (μ.1 63), .ref (b 14), .ref (b 15), .int (μ.1 66), .ref (b 17)])), (b 14, .inl (d 0, 100, .inl (μ.2.2.1 64))), (b 15, .inl (d 3, 100, .inl (μ.2.2.1 65))), (b 17, .inr (18, [.int (μ.1 70), .ref (b 18), .int (μ.1 72)])), (b 18, .inl (d 4, 16, .inr (.inr (.inr (.inr (μ.2.2.2.2 18)))))), (o, .inr (8, [.int (0 : Int32), .int (0 : Int32), .int (0 : Int32), .int (1 : Int32), .null, .null, .int (0 : Int32), .null]))]) (w' := fun u : UU => (SGP d b μ ++ [(o, .inr (8, [.int (0 : Int32), .int (0 : Int32), .int (0 : Int32), .int (1 : Int32), .null, .null, .int (0 : Int32), .null])), (q_1, .inr (18, [.int (0 : Int32), .ref (u 0), .int (0 : Int32)])), ((u 0), .inl (d 4, 16, .inr (.inr (.inr (.inr (fun _ => none))))))])) (va_runI (As := [.int (16 : Int32)]) (rest := [.ref q_1, .ref o]) S (tJ14_init l D d z q_1 _) (cwI 1 hts (lw_meth q788) rfl rfl rfl (hts _ q118) (hts _ q786) (hts _ q787) rfl (by decide +kernel) ⟨(Nat.le_of_ble_eq_true rfl), (Nat.le_of_ble_eq_true rfl)⟩) ⟨Pw.blind, fun U hU hW => Pw.cut (w := (SGP d b μ ++ [(o, .inr (8, [.int (0 : Int32), .int (0 : Int32), .int (0 : Int32), .int (1 : Int32), .null, .null, .int (0 : Int32), .null])), (q_1, .inr (18, [.int (0 : Int32), .null, .int (0 : Int32)]))])) (tl := es) hK hP hD hZ hS hA [6] rfl rfl hU hW⟩ rfl rfl hl.1 rfl (lv_room (Nat.le_of_ble_eq_true rfl)) dX8_init_2_16 ⟨(Nat.le_of_ble_eq_true rfl), (Nat.le_of_ble_eq_true rfl)⟩) hP hD hS hA [6] [0, 1, 2, 3, 4, 5] [0, 1, 2, 3, 4, 5, 6, 7] rfl rfl rfl rfl (by decide) rfl (fun _ => rfl) ?_
  clear hP hD hS
  intro u_2 _ H locs hP hD hS
  generalize u_2 0 = q_3 at hP hD
  replace hf := askU hf q_3
  refine g_putF hx hb hts S.2.2.2.1 hK hP hD hS in_X8 tyX8 tyX8_ok nmX8 5 rfl rfl 7 (by decide) q822 (fun _ h9 => h9) rfl hin rfl (v := .ref q_1) rfl rfl rfl (Nat.le_of_ble_eq_true rfl) (w' := (SGP d b μ ++ [(o, .inr (8, [.int (0 : Int32), .int (0 : Int32), .int (0 : Int32), .int (1 : Int32), .null, .null, .int (0 : Int32), .ref q_1])), (q_1, .inr (18, [.int (0 : Int32), .ref q_3, .int (0 : Int32)])), (q_3, .inl (d 4, 16, .inr (.inr (.inr (.inr (fun _ => none))))))]) ++ es) rfl dX8_init_2_19 ?_
  clear hP hD hS
  intro H locs hP hD hS
  refine lv_aload_n hx hb dX8_init_2_22 rfl (lv_at hl 0 rfl) ?_
  refine lv_aload_n hx hb dX8_init_2_23 rfl (lv_at hl 1 rfl) ?_
  refine g_get hx hb hts S.2.2.2.1 hK hP in_X8 0 rfl rfl 0 (by decide) q808 (fun _ h9 => h9) (v := .int (μ.1 60)) rfl dX8_init_2_24 ?_
  refine g_put hx hb hts S.2.2.2.1 hK hP hD hS in_X8 tyX8 tyX8_ok nmX8 5 rfl rfl 0 (by decide) q808 (fun _ h9 => h9) rfl (v := .int (μ.1 60)) rfl rfl rfl (Nat.le_of_ble_eq_true rfl) (w' := (SGP d b μ ++ [(o, .inr (8, [.int (μ.1 60), .int (0 : Int32), .int (0 : Int32), .int (1 : Int32), .null, .null, .int (0 : Int32), .ref q_1])), (q_1, .inr (18, [.int (0 : Int32), .ref q_3, .int (0 : Int32)])), (q_3, .inl (d 4, 16, .inr (.inr (.inr (.inr (fun _ => none))))))]) ++ es) rfl dX8_init_2_27 ?_
  clear hP hD hS
  intro H locs hP hD hS
  refine lv_aload_n hx hb dX8_init_2_30 rfl (lv_at hl 0 rfl) ?_
  refine lv_aload_n hx hb dX8_init_2_31 rfl (lv_at hl 1 rfl) ?_
  refine g_get hx hb hts S.2.2.2.1 hK hP in_X8 0 rfl rfl 1 (by decide) q811 (fun _ h9 => h9) (v := .int (μ.1 61)) rfl dX8_init_2_32 ?_
  refine g_put hx hb hts S.2.2.2.1 hK hP hD hS in_X8 tyX8 tyX8_ok nmX8 5 rfl rfl 1 (by decide) q811 (fun _ h9 => h9) rfl (v := .int (μ.1 61)) rfl rfl rfl (Nat.le_of_ble_eq_true rfl) (w' := (SGP d b μ ++ [(o, .inr (8, [.int (μ.1 60), .int (μ.1 61), .int (0 : Int32), .int (1 : Int32), .null, .null, .int (0 : Int32), .ref q_1])), (q_1, .inr (18, [.int (0 : Int32), .ref q_3, .int (0 : Int32)])), (q_3, .inl (d 4, 16, .inr (.inr (.inr (.inr (fun _ => none))))))]) ++ es) rfl dX8_init_2_35 ?_
  clear hP hD hS
  intro H locs hP hD hS
  refine lv_aload_n hx hb dX8_init_2_38 rfl (lv_at hl 0 rfl) ?_
  refine lv_aload_n hx hb dX8_init_2_39 rfl (lv_at hl 1 rfl) ?_
  refine g_get hx hb hts S.2.2.2.1 hK hP in_X8 0 rfl rfl 2 (by decide) q813 (fun _ h9 => h9) (v := .int (μ.1 62)) rfl dX8_init_2_40 ?_
  refine g_put hx hb hts S.2.2.2.1 hK hP hD hS in_X8 tyX8 tyX8_ok nmX8 5 rfl rfl 2 (by decide) q813 (fun _ h9 => h9) rfl (v := .int (μ.1 62)) rfl rfl rfl (Nat.le_of_ble_eq_true rfl) (w' := (SGP d b μ ++ [(o, .inr (8, [.int (μ.1 60), .int (μ.1 61), .int (μ.1 62), .int (1 : Int32), .null, .null, .int (0 : Int32), .ref q_1])), (q_1, .inr (18, [.int (0 : Int32), .ref q_3, .int (0 : Int32)])), (q_3, .inl (d 4, 16, .inr (.inr (.inr (.inr (fun _ => none))))))]) ++ es) rfl dX8_init_2_43 ?_
  clear hP hD hS
  intro H locs hP hD hS
  refine lv_aload_n hx hb dX8_init_2_46 rfl (lv_at hl 0 rfl) ?_
  refine lv_aload_n hx hb dX8_init_2_47 rfl (lv_at hl 1 rfl) ?_
  refine g_get hx hb hts S.2.2.2.1 hK hP in_X8 0 rfl rfl 3 (by decide) q815 (fun _ h9 => h9) (v := .int (μ.1 63)) rfl dX8_init_2_48 ?_
  obtain ⟨g_4, hf⟩ := gaU hf
  refine g_put hx hb hts S.2.2.2.1 hK hP hD hS in_X8 tyX8 tyX8_ok nmX8 5 rfl rfl 3 (by decide) q815 (fun _ h9 => h9) rfl (v := .int (μ.1 63)) rfl (by rw [g_4]; exact bi_nar _) (by rw [g_4]; exact bi_fit _) (Nat.le_of_ble_eq_true rfl) (w' := (SGP d b μ ++ [(o, .inr (8, [.int (μ.1 60), .int (μ.1 61), .int (μ.1 62), .int (μ.1 63), .null, .null, .int (0 : Int32), .ref q_1])), (q_1, .inr (18, [.int (0 : Int32), .ref q_3, .int (0 : Int32)])), (q_3, .inl (d 4, 16, .inr (.inr (.inr (.inr (fun _ => none))))))]) ++ es) rfl dX8_init_2_51 ?_
  clear hP hD hS
  intro H locs hP hD hS
  refine lv_aload_n hx hb dX8_init_2_54 rfl (lv_at hl 0 rfl) ?_
  refine lv_aload_n hx hb dX8_init_2_55 rfl (lv_at hl 1 rfl) ?_
  refine g_get hx hb hts S.2.2.2.1 hK hP in_X8 0 rfl rfl 4 (by decide) q816 (fun _ h9 => h9) (v := .ref (b 14)) rfl dX8_init_2_56 ?_
  refine g_clone (w := (SGP d b μ ++ [(o, .inr (8, [.int (μ.1 60), .int (μ.1 61), .int (μ.1 62), .int (μ.1 63), .null, .null, .int (0 : Int32), .ref q_1])), (q_1, .inr (18, [.int (0 : Int32), .ref q_3, .int (0 : Int32)])), (q_3, .inl (d 4, 16, .inr (.inr (.inr (.inr (fun _ => none))))))])) (tl := es) hx hb (S.2.2.1.trans hl.1.symm) hts S.2.2.2.1 q927 q928 q522 q523 q929 q930 hK hP hD hS hA 1 0 rfl rfl (hK.1.2 0 _ rfl).2 (fit_of fun _ _ => rfl) (Nat.le_of_ble_eq_true rfl) (Nat.le_of_ble_eq_true rfl) (Nat.le_of_ble_eq_true rfl) (Nat.le_of_ble_eq_true rfl) (w1 := fun q => (SGP d b μ ++ [(o, .inr (8, [.int (μ.1 60), .int (μ.1 61), .int (μ.1 62), .int (μ.1 63), .null, .null, .int (0 : Int32), .ref q_1])), (q_1, .inr (18, [.int (0 : Int32), .ref q_3, .int (0 : Int32)])), (q_3, .inl (d 4, 16, .inr (.inr (.inr (.inr (fun _ => none)))))), (q, .inl (d 0, 100, .inl (μ.2.2.1 64)))])) (fun _ => rfl) dX8_init_2_59 ?_
  clear hP hD hS
  intro q_5 H hP hD hS
  replace hf := askU hf q_5
  refine g_castA (w := (SGP d b μ ++ [(o, .inr (8, [.int (μ.1 60), .int (μ.1 61), .int (μ.1 62), .int (μ.1 63), .null, .null, .int (0 : Int32), .ref q_1])), (q_1, .inr (18, [.int (0 : Int32), .ref q_3, .int (0 : Int32)])), (q_3, .inl (d 4, 16, .inr (.inr (.inr (.inr (fun _ => none)))))), (q_5, .inl (d 0, 100, .inl (μ.2.2.1 64)))])) (tl := es) hx hb hts S.2.2.2.1 q931 hP 8 0 rfl (hK.1.2 0 _ rfl).2 dX8_init_2_62 ?_
  refine g_putF hx hb hts S.2.2.2.1 hK hP hD hS in_X8 tyX8 tyX8_ok nmX8 5 rfl rfl 4 (by decide) q816 (fun _ h9 => h9) rfl hin rfl (v := .ref q_5) rfl rfl rfl (Nat.le_of_ble_eq_true rfl) (w' := (SGP d b μ ++ [(o, .inr (8, [.int (μ.1 60), .int (μ.1 61), .int (μ.1 62), .int (μ.1 63), .ref q_5, .null, .int (0 : Int32), .ref q_1])), (q_1, .inr (18, [.int (0 : Int32), .ref q_3, .int (0 : Int32)])), (q_3, .inl (d 4, 16, .inr (.inr (.inr (.inr (fun _ => none)))))), (q_5, .inl (d 0, 100, .inl (μ.2.2.1 64)))]) ++ es) rfl dX8_init_2_65 ?_
  clear hP hD hS
  intro H locs hP hD hS
  refine lv_aload_n hx hb dX8_init_2_68 rfl (lv_at hl 0 rfl) ?_
  refine lv_aload_n hx hb dX8_init_2_69 rfl (lv_at hl 1 rfl) ?_
  refine g_get hx hb hts S.2.2.2.1 hK hP in_X8 0 rfl rfl 5 (by decide) q818 (fun _ h9 => h9) (v := .ref (b 15)) rfl dX8_init_2_70 ?_
  obtain ⟨g_7, hf⟩ := gaPU hf
  refine g_clone (w := (SGP d b μ ++ [(o, .inr (8, [.int (μ.1 60), .int (μ.1 61), .int (μ.1 62), .int (μ.1 63), .ref q_5, .null, .int (0 : Int32), .ref q_1])), (q_1, .inr (18, [.int (0 : Int32), .ref q_3, .int (0 : Int32)])), (q_3, .inl (d 4, 16, .inr (.inr (.inr (.inr (fun _ => none)))))), (q_5, .inl (d 0, 100, .inl (μ.2.2.1 64)))])) (tl := es) hx hb (S.2.2.1.trans hl.1.symm) hts S.2.2.2.1 q932 q933 q522 q523 q934 q935 hK hP hD hS hA 2 3 rfl rfl (hK.1.2 3 _ rfl).2 (fit_of g_7) (Nat.le_of_ble_eq_true rfl) (Nat.le_of_ble_eq_true rfl) (Nat.le_of_ble_eq_true rfl) (Nat.le_of_ble_eq_true rfl) (w1 := fun q => (SGP d b μ ++ [(o, .inr (8, [.int (μ.1 60), .int (μ.1 61), .int (μ.1 62), .int (μ.1 63), .ref q_5, .null, .int (0 : Int32), .ref q_1])), (q_1, .inr (18, [.int (0 : Int32), .ref q_3, .int (0 : Int32)])), (q_3, .inl (d 4, 16, .inr (.inr (.inr (.inr (fun _ => none)))))), (q_5, .inl (d 0, 100, .inl (μ.2.2.1 64))), (q, .inl (d 3, 100, .inl (μ.2.2.1 65)))])) (fun _ => rfl) dX8_init_2_73 ?_
  clear hP hD hS
  intro q_6 H hP hD hS
  replace hf := askU hf q_6
  replace hf := hf (fun _ => 0)
  refine g_castA (w := (SGP d b μ ++ [(o, .inr (8, [.int (μ.1 60), .int (μ.1 61), .int (μ.1 62), .int (μ.1 63), .ref q_5, .null, .int (0 : Int32), .ref q_1])), (q_1, .inr (18, [.int (0 : Int32), .ref q_3, .int (0 : Int32)])), (q_3, .inl (d 4, 16, .inr (.inr (.inr (.inr (fun _ => none)))))), (q_5, .inl (d 0, 100, .inl (μ.2.2.1 64))), (q_6, .inl (d 3, 100, .inl (μ.2.2.1 65)))])) (tl := es) hx hb hts S.2.2.2.1 q936 hP 9 3 rfl (hK.1.2 3 _ rfl).2 dX8_init_2_76 ?_
  refine g_putF hx hb hts S.2.2.2.1 hK hP hD hS in_X8 tyX8 tyX8_ok nmX8 5 rfl rfl 5 (by decide) q818 (fun _ h9 => h9) rfl hin rfl (v := .ref q_6) rfl rfl rfl (Nat.le_of_ble_eq_true rfl) (w' := (SGP d b μ ++ [(o, .inr (8, [.int (μ.1 60), .int (μ.1 61), .int (μ.1 62), .int (μ.1 63), .ref q_5, .ref q_6, .int (0 : Int32), .ref q_1])), (q_1, .inr (18, [.int (0 : Int32), .ref q_3, .int (0 : Int32)])), (q_3, .inl (d 4, 16, .inr (.inr (.inr (.inr (fun _ => none)))))), (q_5, .inl (d 0, 100, .inl (μ.2.2.1 64))), (q_6, .inl (d 3, 100, .inl (μ.2.2.1 65)))]) ++ es) rfl dX8_init_2_79 ?_
  clear hP hD hS
  intro H locs hP hD hS
  refine lv_aload_n hx hb dX8_init_2_82 rfl (lv_at hl 0 rfl) ?_
  refine lv_aload_n hx hb dX8_init_2_83 rfl (lv_at hl 1 rfl) ?_
  refine g_get hx hb hts S.2.2.2.1 hK hP in_X8 0 rfl rfl 6 (by decide) q820 (fun _ h9 => h9) (v := .int (μ.1 66)) rfl dX8_init_2_84 ?_
  refine g_put hx hb hts S.2.2.2.1 hK hP hD hS in_X8 tyX8 tyX8_ok nmX8 5 rfl rfl 6 (by decide) q820 (fun _ h9 => h9) rfl (v := .int (μ.1 66)) rfl rfl rfl (Nat.le_of_ble_eq_true rfl) (w' := (SGP d b μ ++ [(o, .inr (8, [.int (μ.1 60), .int (μ.1 61), .int (μ.1 62), .int (μ.1 63), .ref q_5, .ref q_6, .int (μ.1 66), .ref q_1])), (q_1, .inr (18, [.int (0 : Int32), .ref q_3, .int (0 : Int32)])), (q_3, .inl (d 4, 16, .inr (.inr (.inr (.inr (fun _ => none)))))), (q_5, .inl (d 0, 100, .inl (μ.2.2.1 64))), (q_6, .inl (d 3, 100, .inl (μ.2.2.1 65)))]) ++ es) rfl dX8_init_2_87 ?_
  clear hP hD hS
  intro H locs hP hD hS
  refine lv_iconst (v := 0) hx hb dX8_init_2_90 (by decide) ?_
  refine lv_istore_n (lv' := [(2, .int (0 : Int32)), (0, .ref o), (1, .ref (b 13))]) hx hb dX8_init_2_91 rfl hl (by decide) rfl (fun ls hl => ?_)
  exact L92 K (0 : Int32) o (μ.1 60) (μ.1 61) (μ.1 62) (μ.1 63) (μ.1 66) q_1 (0 : Int32) (0 : Int32) q_3 q_5 q_6 (fun _ => none) _ _ _ _ hf hP hD hS (lv_sub hl [1, 2, 0] rfl)
