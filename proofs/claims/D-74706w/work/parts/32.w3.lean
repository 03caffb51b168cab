/-! history, changes, the memory -/
set_option maxRecDepth 100000
noncomputable def fX0_remember (K : Nat) (d : Nat → ClassId) (u : UU) (μ : XT) : Option XT :=
  b1 (fJ2_size K (μ.1.1 81, μ.1.1 82, μ.1.2.2.2.2 19)) fun r_2 =>
  if r_2 = (12 : Int32) then
    b2 (fJ2_removeFirst K (μ.1.1 81, μ.1.1 82, μ.1.2.2.2.2 19)) fun r_16 ζ_17 =>
    nm ((xP (xI (xI μ.1 81 ζ_17.1) 82 ζ_17.2.1) 19 ζ_17.2.2, μ.2)) fun ζ_18 =>
    ask u fun q_19 u =>
    b1u u (fun u => fX8_init_2c K d q_19 u ζ_18.1 ζ_18.2) fun ζ_22 u =>
    nm ((ζ_18.1, ζ_22 ++ ζ_18.2)) fun ζ_25 =>
    gaP (∃ fs, (q_19, (.inr (8, fs) : va_E)) ∈ ζ_25.2) <|
    b1 (fJ2_addLast K q_19 (ζ_25.1.1 81, ζ_25.1.1 82, ζ_25.1.2.2.2.2 19)) fun ζ_28 =>
    nm ((xP (xI (xI ζ_25.1 81 ζ_28.1) 82 ζ_28.2.1) 19 ζ_28.2.2, ζ_25.2)) fun ζ_29 =>
    some ζ_29
  else
    ask u fun q_4 u =>
    b1u u (fun u => fX8_init_2c K d q_4 u μ.1 μ.2) fun ζ_7 u =>
    nm ((μ.1, ζ_7 ++ μ.2)) fun ζ_10 =>
    gaP (∃ fs, (q_4, (.inr (8, fs) : va_E)) ∈ ζ_10.2) <|
    b1 (fJ2_addLast K q_4 (ζ_10.1.1 81, ζ_10.1.1 82, ζ_10.1.2.2.2.2 19)) fun ζ_13 =>
    nm ((xP (xI (xI ζ_10.1 81 ζ_13.1) 82 ζ_13.2.1) 19 ζ_13.2.2, ζ_10.2)) fun ζ_14 =>
    some ζ_14
set_option maxHeartbeats 4000000 in
set_option maxRecDepth 100000 in
theorem tX0_remember (l : Launch) (D : va_G) (d : Nat → ClassId) (z : ZT) (b : Nat → Nat) (K : Nat) (μ : XT) (y : UU → XT) (hf : ∀ u, fX0_remember K d u μ = some (y u)) : CVS l yX0_remember (ws_ yX0_remember cX0_remember 1 (Option.none : Option Jvm.ClassFile.FieldType)) (rmc 5 5 227 95) D d z [.ref (b 0)] (XW d z b μ.1 ++ μ.2) (fun u : UU => XW d z b (y u).1 ++ (y u).2) (fun _ => True) := by
  refine CVS.of (rt := .int) (own := RX0) rfl (by decide) (Nat.le_of_ble_eq_true rfl) ?_
  intro p e s m args below meth c A Q ls S hin hK hP hD hZ hS hA hl hret0
  have hret : ∀ (U0 : UU) (μx : XT) (H : Heap) (locs : List Loc) (pc : Nat) (ls' : Array Slot), some μx = some (y U0) → decode cX0_remember pc = .ok (.return_, 1) → va_P D CL (XW d z b μx.1 ++ μx.2) H → va_D A (XW d z b μx.1 ++ μx.2) → va_S A s.heap H locs → W p l e (rmc 5 5 227 95) s m args below meth c H locs 5 227 Q (F0 m pc ls' []) := by
    intro U0 μx H locs pc ls' h9 hdg hP hD hS
    have h8 := hret0 U0 trivial H locs pc ls' hdg
    rw [← Option.some.inj h9] at h8
    exact h8 hP hD hS
  have hx := S.1
  have hb := S.2.1
  have hts := S.2.2.2.2
  have hl : lv_has ls 1 [(0, .ref (b 0))] := hl
  unfold fX0_remember at hf
  refine lv_aload_n hx hb dX0_remember_0 rfl (lv_at hl 0 rfl) ?_
  refine g_get hx hb hts S.2.2.2.1 hK hP in_X0 0 rfl rfl 9 (by decide) q294 (fun _ h9 => h9) (v := .ref (b 16)) rfl dX0_remember_1 ?_
  obtain ⟨r_2, h_1, hf⟩ := b1U hf
  have hPc := toT_P (isC := [18, 19]) (isR := [0, 1, 2, 3, 4, 5, 6, 7, 8, 9, 10, 11, 12, 13, 14, 15, 16, 17]) (wc := ADP d (b 16) (b 19) (μ.1.1 81, μ.1.1 82, μ.1.2.2.2.2 19)) (wr := [(b 0, .inr (1, [.ref (b 1), .int (μ.1.1 1), .int (μ.1.1 2), .ref (b 2), .ref (b 3), .ref (b 4), va_rf (μ.1.2.2.2.2 6 0), .ref (b 7), .ref (b 13), .ref (b 16), .int (μ.1.1 10)])), (b 1, .inl (d 2, 500, .inl (μ.1.2.2.1 1))), (b 2, .inl (d 5, 2, .inr (.inr (.inr (.inr (fun j => some (z.2.2 j))))))), (b 3, .inl (d 6, 5, .inr (.inr (.inr (.inr (fun j => some (z.2.2 (2 + j)))))))), (b 4, .inr (4, [.int (μ.1.1 20), .long (μ.1.2.1 21), .long (μ.1.2.1 22), .long (μ.1.2.1 23), .ref (b 5), .ref (b 6), .ref (b 0)])), (b 5, .inr (2, [.long (μ.1.2.1 30), .long (μ.1.2.1 31)])), (b 6, .inr (2, [.long (μ.1.2.1 32), .long (μ.1.2.1 33)])), (b 7, .inr (6, [.int (μ.1.1 40), .int (μ.1.1 41), .int (μ.1.1 42), .int (μ.1.1 43), .int (μ.1.1 44), .int (μ.1.1 45), .ref (b 8), .ref (b 9), .ref (b 10), .int (μ.1.1 49), .ref (b 11), .ref (b 12), .int (μ.1.1 52)])), (b 8, .inl (d 0, 16, .inl (μ.1.2.2.1 46))), (b 9, .inl (d 1, 16, .inr (.inl (μ.1.2.2.2.1 47)))), (b 10, .inl (d 1, 16, .inr (.inl (μ.1.2.2.2.1 48)))), (b 11, .inl (d 0, 8, .inl (μ.1.2.2.1 50))), (b 12, .inl (d 0, 8, .inl (μ.1.2.2.1 51))), (b 13, .inr (8, [.int (μ.1.1 60), .int (μ.1.1 61), .int (μ.1.1 62), .int (μ.1.1 63), .ref (b 14), .ref (b 15), .int (μ.1.1 66), .ref (b 17)])), (b 14, .inl (d 0, 100, .inl (μ.1.2.2.1 64))), (b 15, .inl (d 3, 100, .inl (μ.1.2.2.1 65))), (b 17, .inr (18, [.int (μ.1.1 70), .ref (b 18), .int (μ.1.1 72)])), (b 18, .inl (d 4, 16, .inr (.inr (.inr (.inr (μ.1.2.2.2.2 18))))))]) (w := XW d z b μ.1) (tl := μ.2) hP rfl rfl
  have hDc := toT_D (isC := [18, 19]) (isR := [0, 1, 2, 3, 4, 5, 6, 7, 8, 9, 10, 11, 12, 13, 14, 15, 16, 17]) (wc := ADP d (b 16) (b 19) (μ.1.1 81, μ.1.1 82, μ.1.2.2.2.2 19)) (wr := [(b 0, .inr (1, [.ref (b 1), .int (μ.1.1 1), .int (μ.1.1 2), .ref (b 2), .ref (b 3), .ref (b 4), va_rf (μ.1.2.2.2.2 6 0), .ref (b 7), .ref (b 13), .ref (b 16), .int (μ.1.1 10)])), (b 1, .inl (d 2, 500, .inl (μ.1.2.2.1 1))), (b 2, .inl (d 5, 2, .inr (.inr (.inr (.inr (fun j => some (z.2.2 j))))))), (b 3, .inl (d 6, 5, .inr (.inr (.inr (.inr (fun j => some (z.2.2 (2 + j)))))))), (b 4, .inr (4, [.int (μ.1.1 20), .long (μ.1.2.1 21), .long (μ.1.2.1 22), .long (μ.1.2.1 23), .ref (b 5), .ref (b 6), .ref (b 0)])), (b 5, .inr (2, [.long (μ.1.2.1 30), .long (μ.1.2.1 31)])), (b 6, .inr (2, [.long (μ.1.2.1 32), .long (μ.1.2.1 33)])), (b 7, .inr (6, [.int (μ.1.1 40), .int (μ.1.1 41), .int (μ.1.1 42), .int (μ.1.1 43), .int (μ.1.1 44), .int (μ.1.1 45), .ref (b 8), .ref (b 9), .ref (b 10), .int (μ.1.1 49), .ref (b 11), .ref (b 12), .int (μ.1.1 52)])), (b 8, .inl (d 0, 16, .inl (μ.1.2.2.1 46))), (b 9, .inl (d 1, 16, .inr (.inl (μ.1.2.2.2.1 47)))), (b 10, .inl (d 1, 16, .inr (.inl (μ.1.2.2.2.1 48)))), (b 11, .inl (d 0, 8, .inl (μ.1.2.2.1 50))), (b 12, .inl (d 0, 8, .inl (μ.1.2.2.1 51))), (b 13, .inr (8, [.int (μ.1.1 60), .int (μ.1.1 61), .int (μ.1.1 62), .int (μ.1.1 63), .ref (b 14), .ref (b 15), .int (μ.1.1 66), .ref (b 17)])), (b 14, .inl (d 0, 100, .inl (μ.1.2.2.1 64))), (b 15, .inl (d 3, 100, .inl (μ.1.2.2.1 65))), (b 17, .inr (18, [.int (μ.1.1 70), .ref (b 18), .int (μ.1.1 72)])), (b 18, .inl (d 4, 16, .inr (.inr (.inr (.inr (μ.1.2.2.2.2 18))))))]) (w := XW d z b μ.1) (tl := μ.2) hD rfl rfl rfl
  refine runW_i (va_runV (As := []) (rest := []) S (tJ2_size l D d z (b 16) (b 19) ([(b 0, .inr (1, [.ref (b 1), .int (μ.1.1 1), .int (μ.1.1 2), .ref (b 2), .ref (b 3), .ref (b 4), va_rf (μ.1.2.2.2.2 6 0), .ref (b 7), .ref (b 13), .ref (b 16), .int (μ.1.1 10)])), (b 1, .inl (d 2, 500, .inl (μ.1.2.2.1 1))), (b 2, .inl (d 5, 2, .inr (.inr (.inr (.inr (fun j => some (z.2.2 j))))))), (b 3, .inl (d 6, 5, .inr (.inr (.inr (.inr (fun j => some (z.2.2 (2 + j)))))))), (b 4, .inr (4, [.int (μ.1.1 20), .long (μ.1.2.1 21), .long (μ.1.2.1 22), .long (μ.1.2.1 23), .ref (b 5), .ref (b 6), .ref (b 0)])), (b 5, .inr (2, [.long (μ.1.2.1 30), .long (μ.1.2.1 31)])), (b 6, .inr (2, [.long (μ.1.2.1 32), .long (μ.1.2.1 33)])), (b 7, .inr (6, [.int (μ.1.1 40), .int (μ.1.1 41), .int (μ.1.1 42), .int (μ.1.1 43), .int (μ.1.1 44), .int (μ.1.1 45), .ref (b 8), .ref (b 9), .ref (b 10), .int (μ.1.1 49), .ref (b 11), .ref (b 12), .int (μ.1.1 52)])), (b 8, .inl (d 0, 16, .inl (μ.1.2.2.1 46))), (b 9, .inl (d 1, 16, .inr (.inl (μ.1.2.2.2.1 47)))), (b 10, .inl (d 1, 16, .inr (.inl (μ.1.2.2.2.1 48)))), (b 11, .inl (d 0, 8, .inl (μ.1.2.2.1 50))), (b 12, .inl (d 0, 8, .inl (μ.1.2.2.1 51))), (b 13, .inr (8, [.int (μ.1.1 60), .int (μ.1.1 61), .int (μ.1.1 62), .int (μ.1.1 63), .ref (b 14), .ref (b 15), .int (μ.1.1 66), .ref (b 17)])), (b 14, .inl (d 0, 100, .inl (μ.1.2.2.1 64))), (b 15, .inl (d 3, 100, .inl (μ.1.2.2.1 65))), (b 17, .inr (18, [.int (μ.1.1 70), .ref (b 18), .int (μ.1.1 72)])), (b 18, .inl (d 4, 16, .inr (.inr (.inr (.inr (μ.1.2.2.2.2 18))))))] ++ μ.2) K (μ.1.1 81, μ.1.1 82, μ.1.2.2.2.2 19) r_2 h_1 _) (cwV 0 hts (lw_V q903 q904 q905 q100 q906) rfl rfl rfl (by decide +kernel) ⟨(Nat.le_of_ble_eq_true rfl), (Nat.le_of_ble_eq_true rfl)⟩) ⟨Pw.blind, (va_recv hK.1 hP (ci := 17) (q0 := 18) rfl rfl), fun U hU hW => Pw.at hK hPc hDc hZ hS hA hU hW⟩ rfl rfl hl.1 rfl (lv_room (Nat.le_of_ble_eq_true rfl)) dX0_remember_4 ⟨(Nat.le_of_ble_eq_true rfl), (Nat.le_of_ble_eq_true rfl)⟩) hPc hDc hS hA ?_
  clear hP hD hS hPc hDc
  intro H locs hP hD hS
  replace hP := ofT_P (perm := [2, 3, 4, 5, 6, 7, 8, 9, 10, 11, 12, 13, 14, 15, 16, 17, 18, 19, 0, 1]) (w' := XW d z b μ.1) hP rfl
  replace hD := ofT_D (perm := [2, 3, 4, 5, 6, 7, 8, 9, 10, 11, 12, 13, 14, 15, 16, 17, 18, 19, 0, 1]) (w' := XW d z b μ.1) hD rfl rfl
  clear h_1
  refine lv_bipush (v := 12) hx hb dX0_remember_7 (by decide) ?_
  refine lv_icmp_ne (tgt := 20) hx hb dX0_remember_9 (by decide) (fun c_3 => ?_) (fun c_3 => ?_)
  · replace hf := itU_f hf c_3
    clear c_3
    refine lv_aload_n hx hb dX0_remember_20 rfl (lv_at hl 0 rfl) ?_
    refine g_get hx hb hts S.2.2.2.1 hK hP in_X0 0 rfl rfl 9 (by decide) q294 (fun _ h9 => h9) (v := .ref (b 16)) rfl dX0_remember_21 ?_
    refine g_newT (w := XW d z b μ.1) (tl := μ.2) hx hb hts S.2.2.2.1 hK hP hD hS hA (ci := 8) in_X8 tyX8 tyX8_ok q778 q779 q116 rfl (fs := [.int (0 : Int32), .int (0 : Int32), .int (0 : Int32), .int (0 : Int32), .null, .null, .int (0 : Int32), .null]) (fun j hj => by rcases (show j = 0 ∨ j = 1 ∨ j = 2 ∨ j = 3 ∨ j = 4 ∨ j = 5 ∨ j = 6 ∨ j = 7 by omega) with rfl | rfl | rfl | rfl | rfl | rfl | rfl | rfl <;> rfl) (Nat.le_of_ble_eq_true rfl) (Nat.le_of_ble_eq_true rfl) (w1 := fun q => (XW d z b μ.1 ++ [(q, .inr (8, [.int (0 : Int32), .int (0 : Int32), .int (0 : Int32), .int (0 : Int32), .null, .null, .int (0 : Int32), .null]))])) (fun _ => rfl) dX0_remember_24 ?_
    clear hP hD hS
    intro q_4 H hP hD hS
    replace hf := askU hf q_4
    refine lv_dup hx hb dX0_remember_27 rfl ?_
    refine lv_aload_n hx hb dX0_remember_28 rfl (lv_at hl 0 rfl) ?_
    refine g_get hx hb hts S.2.2.2.1 hK hP in_X0 0 rfl rfl 8 (by decide) q293 (fun _ h9 => h9) (v := .ref (b 13)) rfl dX0_remember_29 ?_
    obtain ⟨y_6, h_5, hf⟩ := b1u_some hf
    have hPc := toT_P (isC := [13, 14, 15, 16, 17, 20]) (isR := [0, 1, 2, 3, 4, 5, 6, 7, 8, 9, 10, 11, 12, 18, 19]) (wc := (SGP d b μ.1 ++ [(q_4, .inr (8, [.int (0 : Int32), .int (0 : Int32), .int (0 : Int32), .int (0 : Int32), .null, .null, .int (0 : Int32), .null]))])) (wr := [(b 0, .inr (1, [.ref (b 1), .int (μ.1.1 1), .int (μ.1.1 2), .ref (b 2), .ref (b 3), .ref (b 4), va_rf (μ.1.2.2.2.2 6 0), .ref (b 7), .ref (b 13), .ref (b 16), .int (μ.1.1 10)])), (b 1, .inl (d 2, 500, .inl (μ.1.2.2.1 1))), (b 2, .inl (d 5, 2, .inr (.inr (.inr (.inr (fun j => some (z.2.2 j))))))), (b 3, .inl (d 6, 5, .inr (.inr (.inr (.inr (fun j => some (z.2.2 (2 + j)))))))), (b 4, .inr (4, [.int (μ.1.1 20), .long (μ.1.2.1 21), .long (μ.1.2.1 22), .long (μ.1.2.1 23), .ref (b 5), .ref (b 6), .ref (b 0)])), (b 5, .inr (2, [.long (μ.1.2.1 30), .long (μ.1.2.1 31)])), (b 6, .inr (2, [.long (μ.1.2.1 32), .long (μ.1.2.1 33)])), (b 7, .inr (6, [.int (μ.1.1 40), .int (μ.1.1 41), .int (μ.1.1 42), .int (μ.1.1 43), .int (μ.1.1 44), .int (μ.1.1 45), .ref (b 8), .ref (b 9), .ref (b 10), .int (μ.1.1 49), .ref (b 11), .ref (b 12), .int (μ.1.1 52)])), (b 8, .inl (d 0, 16, .inl (μ.1.2.2.1 46))), (b 9, .inl (d 1, 16, .inr (.inl (μ.1.2.2.2.1 47)))), (b 10, .inl (d 1, 16, .inr (.inl (μ.1.2.2.2.1 48)))), (b 11, .inl (d 0, 8, .inl (μ.1.2.2.1 50))), (b 12, .inl (d 0, 8, .inl (μ.1.2.2.1 51))), (b 16, .inr (17, [.ref (b 19), .int (μ.1.1 81), .int (μ.1.1 82)])), (b 19, .inl (d 4, 17, .inr (.inr (.inr (.inr (μ.1.2.2.2.2 19))))))]) (w := (XW d z b μ.1 ++ [(q_4, .inr (8, [.int (0 : Int32), .int (0 : Int32), .int (0 : Int32), .int (0 : Int32), .null, .null, .int (0 : Int32), .null]))])) (tl := μ.2) hP rfl rfl
    have hDc := toT_D (isC := [13, 14, 15, 16, 17, 20]) (isR := [0, 1, 2, 3, 4, 5, 6, 7, 8, 9, 10, 11, 12, 18, 19]) (wc := (SGP d b μ.1 ++ [(q_4, .inr (8, [.int (0 : Int32), .int (0 : Int32), .int (0 : Int32), .int (0 : Int32), .null, .null, .int (0 : Int32), .null]))])) (wr := [(b 0, .inr (1, [.ref (b 1), .int (μ.1.1 1), .int (μ.1.1 2), .ref (b 2), .ref (b 3), .ref (b 4), va_rf (μ.1.2.2.2.2 6 0), .ref (b 7), .ref (b 13), .ref (b 16), .int (μ.1.1 10)])), (b 1, .inl (d 2, 500, .inl (μ.1.2.2.1 1))), (b 2, .inl (d 5, 2, .inr (.inr (.inr (.inr (fun j => some (z.2.2 j))))))), (b 3, .inl (d 6, 5, .inr (.inr (.inr (.inr (fun j => some (z.2.2 (2 + j)))))))), (b 4, .inr (4, [.int (μ.1.1 20), .long (μ.1.2.1 21), .long (μ.1.2.1 22), .long (μ.1.2.1 23), .ref (b 5), .ref (b 6), .ref (b 0)])), (b 5, .inr (2, [.long (μ.1.2.1 30), .long (μ.1.2.1 31)])), (b 6, .inr (2, [.long (μ.1.2.1 32), .long (μ.1.2.1 33)])), (b 7, .inr (6, [.int (μ.1.1 40), .int (μ.1.1 41), .int (μ.1.1 42), .int (μ.1.1 43), .int (μ.1.1 44), .int (μ.1.1 45), .ref (b 8), .ref (b 9), .ref (b 10), .int (μ.1.1 49), .ref (b 11), .ref (b 12), .int (μ.1.1 52)])), (b 8, .inl (d 0, 16, .inl (μ.1.2.2.1 46))), (b 9, .inl (d 1, 16, .inr (.inl (μ.1.2.2.2.1 47)))), (b 10, .inl (d 1, 16, .inr (.inl (μ.1.2.2.2.1 48)))), (b 11, .inl (d 0, 8, .inl (μ.1.2.2.1 50))), (b 12, .inl (d 0, 8, .inl (μ.1.2.2.1 51))), (b 16, .inr (17, [.ref (b 19), .int (μ.1.1 81), .int (μ.1.1 82)])), (b 19, .inl (d 4, 17, .inr (.inr (.inr (.inr (μ.1.2.2.2.2 19))))))]) (w := (XW d z b μ.1 ++ [(q_4, .inr (8, [.int (0 : Int32), .int (0 : Int32), .int (0 : Int32), .int (0 : Int32), .null, .null, .int (0 : Int32), .null]))])) (tl := μ.2) hD rfl rfl rfl
    refine runW_vS (va_runI (As := [.ref (b 13)]) (rest := [.ref q_4, .ref (b 16)]) S (tX8_init_2c l D d z b ([(b 0, .inr (1, [.ref (b 1), .int (μ.1.1 1), .int (μ.1.1 2), .ref (b 2), .ref (b 3), .ref (b 4), va_rf (μ.1.2.2.2.2 6 0), .ref (b 7), .ref (b 13), .ref (b 16), .int (μ.1.1 10)])), (b 1, .inl (d 2, 500, .inl (μ.1.2.2.1 1))), (b 2, .inl (d 5, 2, .inr (.inr (.inr (.inr (fun j => some (z.2.2 j))))))), (b 3, .inl (d 6, 5, .inr (.inr (.inr (.inr (fun j => some (z.2.2 (2 + j)))))))), (b 4, .inr (4, [.int (μ.1.1 20), .long (μ.1.2.1 21), .long (μ.1.2.1 22), .long (μ.1.2.1 23), .ref (b 5), .ref (b 6), .ref (b 0)])), (b 5, .inr (2, [.long (μ.1.2.1 30), .long (μ.1.2.1 31)])), (b 6, .inr (2, [.long (μ.1.2.1 32), .long (μ.1.2.1 33)])), (b 7, .inr (6, [.int (μ.1.1 40), .int (μ.1.1 41), .int (μ.1.1 42), .int (μ.1.1 43), .int (μ.1.1 44), .int (μ.1.1 45), .ref (b 8), .ref (b 9), .ref (b 10), .int (μ.1.1 49), .ref (b 11), .ref (b 12), .int (μ.1.1 52)])), (b 8, .inl (d 0, 16, .inl (μ.1.2.2.1 46))), (b 9, .inl (d 1, 16, .inr (.inl (μ.1.2.2.2.1 47)))), (b 10, .inl (d 1, 16, .inr (.inl (μ.1.2.2.2.1 48)))), (b 11, .inl (d 0, 8, .inl (μ.1.2.2.1 50))), (b 12, .inl (d 0, 8, .inl (μ.1.2.2.1 51))), (b 16, .inr (17, [.ref (b 19), .int (μ.1.1 81), .int (μ.1.1 82)])), (b 19, .inl (d 4, 17, .inr (.inr (.inr (.inr (μ.1.2.2.2.2 19))))))] ++ μ.2) K q_4 μ.2 (fun q h => List.mem_append_right _ h) μ.1 y_6 h_5 _) (cwI 1 hts (lw_meth q926) rfl rfl rfl (hts _ q116) (hts _ q924) (hts _ q925) rfl (by decide +kernel) ⟨(Nat.le_of_ble_eq_true rfl), (Nat.le_of_ble_eq_true rfl)⟩) ⟨Pw.blind, fun U hU hW => Pw.at hK hPc hDc hZ hS hA hU hW⟩ rfl rfl hl.1 rfl (lv_room (Nat.le_of_ble_eq_true rfl)) dX0_remember_32 ⟨(Nat.le_of_ble_eq_true rfl), (Nat.le_of_ble_eq_true rfl)⟩) hPc hDc hS hA ?_
    clear hP hD hS hPc hDc
    intro u_8 _ H locs hP hD hS
    replace hf := hf u_8
    generalize y_6 u_8 = ζ_7 at hf hP hD
    obtain ⟨ζ_10, e_ζ_10⟩ : ∃ x, x = (μ.1, ζ_7 ++ μ.2) := ⟨_, rfl⟩
    replace hP := cp_P (wc := SGP d b μ.1) (wr := [(b 0, .inr (1, [.ref (b 1), .int (μ.1.1 1), .int (μ.1.1 2), .ref (b 2), .ref (b 3), .ref (b 4), va_rf (μ.1.2.2.2.2 6 0), .ref (b 7), .ref (b 13), .ref (b 16), .int (μ.1.1 10)])), (b 1, .inl (d 2, 500, .inl (μ.1.2.2.1 1))), (b 2, .inl (d 5, 2, .inr (.inr (.inr (.inr (fun j => some (z.2.2 j))))))), (b 3, .inl (d 6, 5, .inr (.inr (.inr (.inr (fun j => some (z.2.2 (2 + j)))))))), (b 4, .inr (4, [.int (μ.1.1 20), .long (μ.1.2.1 21), .long (μ.1.2.1 22), .long (μ.1.2.1 23), .ref (b 5), .ref (b 6), .ref (b 0)])), (b 5, .inr (2, [.long (μ.1.2.1 30), .long (μ.1.2.1 31)])), (b 6, .inr (2, [.long (μ.1.2.1 32), .long (μ.1.2.1 33)])), (b 7, .inr (6, [.int (μ.1.1 40), .int (μ.1.1 41), .int (μ.1.1 42), .int (μ.1.1 43), .int (μ.1.1 44), .int (μ.1.1 45), .ref (b 8), .ref (b 9), .ref (b 10), .int (μ.1.1 49), .ref (b 11), .ref (b 12), .int (μ.1.1 52)])), (b 8, .inl (d 0, 16, .inl (μ.1.2.2.1 46))), (b 9, .inl (d 1, 16, .inr (.inl (μ.1.2.2.2.1 47)))), (b 10, .inl (d 1, 16, .inr (.inl (μ.1.2.2.2.1 48)))), (b 11, .inl (d 0, 8, .inl (μ.1.2.2.1 50))), (b 12, .inl (d 0, 8, .inl (μ.1.2.2.1 51))), (b 16, .inr (17, [.ref (b 19), .int (μ.1.1 81), .int (μ.1.1 82)])), (b 19, .inl (d 4, 17, .inr (.inr (.inr (.inr (μ.1.2.2.2.2 19))))))]) hP
    replace hD := cp_D (wc := SGP d b μ.1) (wr := [(b 0, .inr (1, [.ref (b 1), .int (μ.1.1 1), .int (μ.1.1 2), .ref (b 2), .ref (b 3), .ref (b 4), va_rf (μ.1.2.2.2.2 6 0), .ref (b 7), .ref (b 13), .ref (b 16), .int (μ.1.1 10)])), (b 1, .inl (d 2, 500, .inl (μ.1.2.2.1 1))), (b 2, .inl (d 5, 2, .inr (.inr (.inr (.inr (fun j => some (z.2.2 j))))))), (b 3, .inl (d 6, 5, .inr (.inr (.inr (.inr (fun j => some (z.2.2 (2 + j)))))))), (b 4, .inr (4, [.int (μ.1.1 20), .long (μ.1.2.1 21), .long (μ.1.2.1 22), .long (μ.1.2.1 23), .ref (b 5), .ref (b 6), .ref (b 0)])), (b 5, .inr (2, [.long (μ.1.2.1 30), .long (μ.1.2.1 31)])), (b 6, .inr (2, [.long (μ.1.2.1 32), .long (μ.1.2.1 33)])), (b 7, .inr (6, [.int (μ.1.1 40), .int (μ.1.1 41), .int (μ.1.1 42), .int (μ.1.1 43), .int (μ.1.1 44), .int (μ.1.1 45), .ref (b 8), .ref (b 9), .ref (b 10), .int (μ.1.1 49), .ref (b 11), .ref (b 12), .int (μ.1.1 52)])), (b 8, .inl (d 0, 16, .inl (μ.1.2.2.1 46))), (b 9, .inl (d 1, 16, .inr (.inl (μ.1.2.2.2.1 47)))), (b 10, .inl (d 1, 16, .inr (.inl (μ.1.2.2.2.1 48)))), (b 11, .inl (d 0, 8, .inl (μ.1.2.2.1 50))), (b 12, .inl (d 0, 8, .inl (μ.1.2.2.1 51))), (b 16, .inr (17, [.ref (b 19), .int (μ.1.1 81), .int (μ.1.1 82)])), (b 19, .inl (d 4, 17, .inr (.inr (.inr (.inr (μ.1.2.2.2.2 19))))))]) hD
    replace hP := ofT_P (perm := [5, 6, 7, 8, 9, 10, 11, 12, 13, 14, 15, 16, 17, 0, 1, 2, 3, 4, 18, 19]) (wr := [(b 0, .inr (1, [.ref (b 1), .int (μ.1.1 1), .int (μ.1.1 2), .ref (b 2), .ref (b 3), .ref (b 4), va_rf (μ.1.2.2.2.2 6 0), .ref (b 7), .ref (b 13), .ref (b 16), .int (μ.1.1 10)])), (b 1, .inl (d 2, 500, .inl (μ.1.2.2.1 1))), (b 2, .inl (d 5, 2, .inr (.inr (.inr (.inr (fun j => some (z.2.2 j))))))), (b 3, .inl (d 6, 5, .inr (.inr (.inr (.inr (fun j => some (z.2.2 (2 + j)))))))), (b 4, .inr (4, [.int (μ.1.1 20), .long (μ.1.2.1 21), .long (μ.1.2.1 22), .long (μ.1.2.1 23), .ref (b 5), .ref (b 6), .ref (b 0)])), (b 5, .inr (2, [.long (μ.1.2.1 30), .long (μ.1.2.1 31)])), (b 6, .inr (2, [.long (μ.1.2.1 32), .long (μ.1.2.1 33)])), (b 7, .inr (6, [.int (μ.1.1 40), .int (μ.1.1 41), .int (μ.1.1 42), .int (μ.1.1 43), .int (μ.1.1 44), .int (μ.1.1 45), .ref (b 8), .ref (b 9), .ref (b 10), .int (μ.1.1 49), .ref (b 11), .ref (b 12), .int (μ.1.1 52)])), (b 8, .inl (d 0, 16, .inl (μ.1.2.2.1 46))), (b 9, .inl (d 1, 16, .inr (.inl (μ.1.2.2.2.1 47)))), (b 10, .inl (d 1, 16, .inr (.inl (μ.1.2.2.2.1 48)))), (b 11, .inl (d 0, 8, .inl (μ.1.2.2.1 50))), (b 12, .inl (d 0, 8, .inl (μ.1.2.2.1 51))), (b 16, .inr (17, [.ref (b 19), .int (μ.1.1 81), .int (μ.1.1 82)])), (b 19, .inl (d 4, 17, .inr (.inr (.inr (.inr (μ.1.2.2.2.2 19))))))]) (tl := ζ_7 ++ μ.2) (w' := XW d z b ζ_10.1) hP (by subst e_ζ_10; rfl)
    replace hD := ofT_D (perm := [5, 6, 7, 8, 9, 10, 11, 12, 13, 14, 15, 16, 17, 0, 1, 2, 3, 4, 18, 19]) (wr := [(b 0, .inr (1, [.ref (b 1), .int (μ.1.1 1), .int (μ.1.1 2), .ref (b 2), .ref (b 3), .ref (b 4), va_rf (μ.1.2.2.2.2 6 0), .ref (b 7), .ref (b 13), .ref (b 16), .int (μ.1.1 10)])), (b 1, .inl (d 2, 500, .inl (μ.1.2.2.1 1))), (b 2, .inl (d 5, 2, .inr (.inr (.inr (.inr (fun j => some (z.2.2 j))))))), (b 3, .inl (d 6, 5, .inr (.inr (.inr (.inr (fun j => some (z.2.2 (2 + j)))))))), (b 4, .inr (4, [.int (μ.1.1 20), .long (μ.1.2.1 21), .long (μ.1.2.1 22), .long (μ.1.2.1 23), .ref (b 5), .ref (b 6), .ref (b 0)])), (b 5, .inr (2, [.long (μ.1.2.1 30), .long (μ.1.2.1 31)])), (b 6, .inr (2, [.long (μ.1.2.1 32), .long (μ.1.2.1 33)])), (b 7, .inr (6, [.int (μ.1.1 40), .int (μ.1.1 41), .int (μ.1.1 42), .int (μ.1.1 43), .int (μ.1.1 44), .int (μ.1.1 45), .ref (b 8), .ref (b 9), .ref (b 10), .int (μ.1.1 49), .ref (b 11), .ref (b 12), .int (μ.1.1 52)])), (b 8, .inl (d 0, 16, .inl (μ.1.2.2.1 46))), (b 9, .inl (d 1, 16, .inr (.inl (μ.1.2.2.2.1 47)))), (b 10, .inl (d 1, 16, .inr (.inl (μ.1.2.2.2.1 48)))), (b 11, .inl (d 0, 8, .inl (μ.1.2.2.1 50))), (b 12, .inl (d 0, 8, .inl (μ.1.2.2.1 51))), (b 16, .inr (17, [.ref (b 19), .int (μ.1.1 81), .int (μ.1.1 82)])), (b 19, .inl (d 4, 17, .inr (.inr (.inr (.inr (μ.1.2.2.2.2 19))))))]) (tl := ζ_7 ++ μ.2) (w' := XW d z b ζ_10.1) hD rfl (by subst e_ζ_10; rfl)
    rw [show ζ_7 ++ μ.2 = ζ_10.2 from by subst e_ζ_10; rfl] at hP hD
    clear h_5
    replace hf := nmU hf ζ_10 e_ζ_10
    clear e_ζ_10
    replace hf := hf (fun _ => 0)
    obtain ⟨he_11, hf⟩ := gaP_some hf
    obtain ⟨ζ_13, h_12, hf⟩ := b1_some hf
    obtain ⟨ζ_14, e_ζ_14⟩ : ∃ x, x = (xP (xI (xI ζ_10.1 81 ζ_13.1) 82 ζ_13.2.1) 19 ζ_13.2.2, ζ_10.2) := ⟨_, rfl⟩
    have hPc := toT_P (isC := [18, 19]) (isR := [0, 1, 2, 3, 4, 5, 6, 7, 8, 9, 10, 11, 12, 13, 14, 15, 16, 17]) (wc := ADP d (b 16) (b 19) (ζ_10.1.1 81, ζ_10.1.1 82, ζ_10.1.2.2.2.2 19)) (wr := [(b 0, .inr (1, [.ref (b 1), .int (ζ_10.1.1 1), .int (ζ_10.1.1 2), .ref (b 2), .ref (b 3), .ref (b 4), va_rf (ζ_10.1.2.2.2.2 6 0), .ref (b 7), .ref (b 13), .ref (b 16), .int (ζ_10.1.1 10)])), (b 1, .inl (d 2, 500, .inl (ζ_10.1.2.2.1 1))), (b 2, .inl (d 5, 2, .inr (.inr (.inr (.inr (fun j => some (z.2.2 j))))))), (b 3, .inl (d 6, 5, .inr (.inr (.inr (.inr (fun j => some (z.2.2 (2 + j)))))))), (b 4, .inr (4, [.int (ζ_10.1.1 20), .long (ζ_10.1.2.1 21), .long (ζ_10.1.2.1 22), .long (ζ_10.1.2.1 23), .ref (b 5), .ref (b 6), .ref (b 0)])), (b 5, .inr (2, [.long (ζ_10.1.2.1 30), .long (ζ_10.1.2.1 31)])), (b 6, .inr (2, [.long (ζ_10.1.2.1 32), .long (ζ_10.1.2.1 33)])), (b 7, .inr (6, [.int (ζ_10.1.1 40), .int (ζ_10.1.1 41), .int (ζ_10.1.1 42), .int (ζ_10.1.1 43), .int (ζ_10.1.1 44), .int (ζ_10.1.1 45), .ref (b 8), .ref (b 9), .ref (b 10), .int (ζ_10.1.1 49), .ref (b 11), .ref (b 12), .int (ζ_10.1.1 52)])), (b 8, .inl (d 0, 16, .inl (ζ_10.1.2.2.1 46))), (b 9, .inl (d 1, 16, .inr (.inl (ζ_10.1.2.2.2.1 47)))), (b 10, .inl (d 1, 16, .inr (.inl (ζ_10.1.2.2.2.1 48)))), (b 11, .inl (d 0, 8, .inl (ζ_10.1.2.2.1 50))), (b 12, .inl (d 0, 8, .inl (ζ_10.1.2.2.1 51))), (b 13, .inr (8, [.int (ζ_10.1.1 60), .int (ζ_10.1.1 61), .int (ζ_10.1.1 62), .int (ζ_10.1.1 63), .ref (b 14), .ref (b 15), .int (ζ_10.1.1 66), .ref (b 17)])), (b 14, .inl (d 0, 100, .inl (ζ_10.1.2.2.1 64))), (b 15, .inl (d 3, 100, .inl (ζ_10.1.2.2.1 65))), (b 17, .inr (18, [.int (ζ_10.1.1 70), .ref (b 18), .int (ζ_10.1.1 72)])), (b 18, .inl (d 4, 16, .inr (.inr (.inr (.inr (ζ_10.1.2.2.2.2 18))))))]) (w := XW d z b ζ_10.1) (tl := ζ_10.2) hP rfl rfl
    have hDc := toT_D (isC := [18, 19]) (isR := [0, 1, 2, 3, 4, 5, 6, 7, 8, 9, 10, 11, 12, 13, 14, 15, 16, 17]) (wc := ADP d (b 16) (b 19) (ζ_10.1.1 81, ζ_10.1.1 82, ζ_10.1.2.2.2.2 19)) (wr := [(b 0, .inr (1, [.ref (b 1), .int (ζ_10.1.1 1), .int (ζ_10.1.1 2), .ref (b 2), .ref (b 3), .ref (b 4), va_rf (ζ_10.1.2.2.2.2 6 0), .ref (b 7), .ref (b 13), .ref (b 16), .int (ζ_10.1.1 10)])), (b 1, .inl (d 2, 500, .inl (ζ_10.1.2.2.1 1))), (b 2, .inl (d 5, 2, .inr (.inr (.inr (.inr (fun j => some (z.2.2 j))))))), (b 3, .inl (d 6, 5, .inr (.inr (.inr (.inr (fun j => some (z.2.2 (2 + j)))))))), (b 4, .inr (4, [.int (ζ_10.1.1 20), .long (ζ_10.1.2.1 21), .long (ζ_10.1.2.1 22), .long (ζ_10.1.2.1 23), .ref (b 5), .ref (b 6), .ref (b 0)])), (b 5, .inr (2, [.long (ζ_10.1.2.1 30), .long (ζ_10.1.2.1 31)])), (b 6, .inr (2, [.long (ζ_10.1.2.1 32), .long (ζ_10.1.2.1 33)])), (b 7, .inr (6, [.int (ζ_10.1.1 40), .int (ζ_10.1.1 41), .int (ζ_10.1.1 42), .int (ζ_10.1.1 43), .int (ζ_10.1.1 44), .int (ζ_10.1.1 45), .ref (b 8), .ref (b 9), .ref (b 10), .int (ζ_10.1.1 49), .ref (b 11), .ref (b 12), .int (ζ_10.1.1 52)])), (b 8, .inl (d 0, 16, .inl (ζ_10.1.2.2.1 46))), (b 9, .inl (d 1, 16, .inr (.inl (ζ_10.1.2.2.2.1 47)))), (b 10, .inl (d 1, 16, .inr (.inl (ζ_10.1.2.2.2.1 48)))), (b 11, .inl (d 0, 8, .inl (ζ_10.1.2.2.1 50))), (b 12, .inl (d 0, 8, .inl (ζ_10.1.2.2.1 51))), (b 13, .inr (8, [.int (ζ_10.1.1 60), .int (ζ_10.1.1 61), .int (ζ_10.1.1 62), .int (ζ_10.1.1 63), .ref (b 14), .ref (b 15), .int (ζ_10.1.1 66), .ref (b 17)])), (b 14, .inl (d 0, 100, .inl (ζ_10.1.2.2.1 64))), (b 15, .inl (d 3, 100, .inl (ζ_10.1.2.2.1 65))), (b 17, .inr (18, [.int (ζ_10.1.1 70), .ref (b 18), .int (ζ_10.1.1 72)])), (b 18, .inl (d 4, 16, .inr (.inr (.inr (.inr (ζ_10.1.2.2.2.2 18))))))]) (w := XW d z b ζ_10.1) (tl := ζ_10.2) hD rfl rfl rfl
    refine runW_v (va_runV (As := [.ref q_4]) (rest := []) S (tJ2_addLast l D d z (b 16) (b 19) ([(b 0, .inr (1, [.ref (b 1), .int (ζ_10.1.1 1), .int (ζ_10.1.1 2), .ref (b 2), .ref (b 3), .ref (b 4), va_rf (ζ_10.1.2.2.2.2 6 0), .ref (b 7), .ref (b 13), .ref (b 16), .int (ζ_10.1.1 10)])), (b 1, .inl (d 2, 500, .inl (ζ_10.1.2.2.1 1))), (b 2, .inl (d 5, 2, .inr (.inr (.inr (.inr (fun j => some (z.2.2 j))))))), (b 3, .inl (d 6, 5, .inr (.inr (.inr (.inr (fun j => some (z.2.2 (2 + j)))))))), (b 4, .inr (4, [.int (ζ_10.1.1 20), .long (ζ_10.1.2.1 21), .long (ζ_10.1.2.1 22), .long (ζ_10.1.2.1 23), .ref (b 5), .ref (b 6), .ref (b 0)])), (b 5, .inr (2, [.long (ζ_10.1.2.1 30), .long (ζ_10.1.2.1 31)])), (b 6, .inr (2, [.long (ζ_10.1.2.1 32), .long (ζ_10.1.2.1 33)])), (b 7, .inr (6, [.int (ζ_10.1.1 40), .int (ζ_10.1.1 41), .int (ζ_10.1.1 42), .int (ζ_10.1.1 43), .int (ζ_10.1.1 44), .int (ζ_10.1.1 45), .ref (b 8), .ref (b 9), .ref (b 10), .int (ζ_10.1.1 49), .ref (b 11), .ref (b 12), .int (ζ_10.1.1 52)])), (b 8, .inl (d 0, 16, .inl (ζ_10.1.2.2.1 46))), (b 9, .inl (d 1, 16, .inr (.inl (ζ_10.1.2.2.2.1 47)))), (b 10, .inl (d 1, 16, .inr (.inl (ζ_10.1.2.2.2.1 48)))), (b 11, .inl (d 0, 8, .inl (ζ_10.1.2.2.1 50))), (b 12, .inl (d 0, 8, .inl (ζ_10.1.2.2.1 51))), (b 13, .inr (8, [.int (ζ_10.1.1 60), .int (ζ_10.1.1 61), .int (ζ_10.1.1 62), .int (ζ_10.1.1 63), .ref (b 14), .ref (b 15), .int (ζ_10.1.1 66), .ref (b 17)])), (b 14, .inl (d 0, 100, .inl (ζ_10.1.2.2.1 64))), (b 15, .inl (d 3, 100, .inl (ζ_10.1.2.2.1 65))), (b 17, .inr (18, [.int (ζ_10.1.1 70), .ref (b 18), .int (ζ_10.1.1 72)])), (b 18, .inl (d 4, 16, .inr (.inr (.inr (.inr (ζ_10.1.2.2.2.2 18))))))] ++ ζ_10.2) K q_4 (ζ_10.1.1 81, ζ_10.1.1 82, ζ_10.1.2.2.2.2 19) ζ_13 h_12 (he_11.imp fun _ h => List.mem_append_right _ h) _) (cwV 1 hts (lw_V q1007 q1008 q1009 q100 q1010) rfl rfl rfl (by decide +kernel) ⟨(Nat.le_of_ble_eq_true rfl), (Nat.le_of_ble_eq_true rfl)⟩) ⟨Pw.blind, (va_recv hK.1 hP (ci := 17) (q0 := 18) rfl rfl), fun U hU hW => Pw.at hK hPc hDc hZ hS hA hU hW⟩ rfl rfl hl.1 rfl (lv_room (Nat.le_of_ble_eq_true rfl)) dX0_remember_35 ⟨(Nat.le_of_ble_eq_true rfl), (Nat.le_of_ble_eq_true rfl)⟩) hPc hDc hS hA ?_
    clear hP hD hS hPc hDc
    intro H locs hP hD hS
    replace hP := ofT_P (perm := [2, 3, 4, 5, 6, 7, 8, 9, 10, 11, 12, 13, 14, 15, 16, 17, 18, 19, 0, 1]) (w' := XW d z b ζ_14.1) hP (by subst e_ζ_14; rfl)
    replace hD := ofT_D (perm := [2, 3, 4, 5, 6, 7, 8, 9, 10, 11, 12, 13, 14, 15, 16, 17, 18, 19, 0, 1]) (w' := XW d z b ζ_14.1) hD rfl (by subst e_ζ_14; rfl)
    rw [show ζ_10.2 = ζ_14.2 from by subst e_ζ_14; rfl] at hP hD
    clear h_12
    replace hf := nm_some hf ζ_14 e_ζ_14
    clear e_ζ_14
    refine W.widen (k := 5) (n := 227) (Nat.le_of_ble_eq_true rfl) (Nat.le_of_ble_eq_true rfl) ?_
    exact hret _ _ _ _ _ _ hf dX0_remember_38 hP hD hS
  · replace hf := itU_t hf c_3
    clear c_3
    refine lv_aload_n hx hb dX0_remember_12 rfl (lv_at hl 0 rfl) ?_
    refine g_get hx hb hts S.2.2.2.1 hK hP in_X0 0 rfl rfl 9 (by decide) q294 (fun _ h9 => h9) (v := .ref (b 16)) rfl dX0_remember_13 ?_
    obtain ⟨r_16, ζ_17, h_15, hf⟩ := b2U hf
    obtain ⟨ζ_18, e_ζ_18⟩ : ∃ x, x = (xP (xI (xI μ.1 81 ζ_17.1) 82 ζ_17.2.1) 19 ζ_17.2.2, μ.2) := ⟨_, rfl⟩
    have hPc := toT_P (isC := [18, 19]) (isR := [0, 1, 2, 3, 4, 5, 6, 7, 8, 9, 10, 11, 12, 13, 14, 15, 16, 17]) (wc := ADP d (b 16) (b 19) (μ.1.1 81, μ.1.1 82, μ.1.2.2.2.2 19)) (wr := [(b 0, .inr (1, [.ref (b 1), .int (μ.1.1 1), .int (μ.1.1 2), .ref (b 2), .ref (b 3), .ref (b 4), va_rf (μ.1.2.2.2.2 6 0), .ref (b 7), .ref (b 13), .ref (b 16), .int (μ.1.1 10)])), (b 1, .inl (d 2, 500, .inl (μ.1.2.2.1 1))), (b 2, .inl (d 5, 2, .inr (.inr (.inr (.inr (fun j => some (z.2.2 j))))))), (b 3, .inl (d 6, 5, .inr (.inr (.inr (.inr (fun j => some (z.2.2 (2 + j)))))))), (b 4, .inr (4, [.int (μ.1.1 20), .long (μ.1.2.1 21), .long (μ.1.2.1 22), .long (μ.1.2.1 23), .ref (b 5), .ref (b 6), .ref (b 0)])), (b 5, .inr (2, [.long (μ.1.2.1 30), .long (μ.1.2.1 31)])), (b 6, .inr (2, [.long (μ.1.2.1 32), .long (μ.1.2.1 33)])), (b 7, .inr (6, [.int (μ.1.1 40), .int (μ.1.1 41), .int (μ.1.1 42), .int (μ.1.1 43), .int (μ.1.1 44), .int (μ.1.1 45), .ref (b 8), .ref (b 9), .ref (b 10), .int (μ.1.1 49), .ref (b 11), .ref (b 12), .int (μ.1.1 52)])), (b 8, .inl (d 0, 16, .inl (μ.1.2.2.1 46))), (b 9, .inl (d 1, 16, .inr (.inl (μ.1.2.2.2.1 47)))), (b 10, .inl (d 1, 16, .inr (.inl (μ.1.2.2.2.1 48)))), (b 11, .inl (d 0, 8, .inl (μ.1.2.2.1 50))), (b 12, .inl (d 0, 8, .inl (μ.1.2.2.1 51))), (b 13, .inr (8, [.int (μ.1.1 60), .int (μ.1.1 61), .int (μ.1.1 62), .int (μ.1.1 63), .ref (b 14), .ref (b 15), .int (μ.1.1 66), .ref (b 17)])), (b 14, .inl (d 0, 100, .inl (μ.1.2.2.1 64))), (b 15, .inl (d 3, 100, .inl (μ.1.2.2.1 65))), (b 17, .inr (18, [.int (μ.1.1 70), .ref (b 18), .int (μ.1.1 72)])), (b 18, .inl (d 4, 16, .inr (.inr (.inr (.inr (μ.1.2.2.2.2 18))))))]) (w := XW d z b μ.1) (tl := μ.2) hP rfl rfl
    have hDc := toT_D (isC := [18, 19]) (isR := [0, 1, 2, 3, 4, 5, 6, 7, 8, 9, 10, 11, 12, 13, 14, 15, 16, 17]) (wc := ADP d (b 16) (b 19) (μ.1.1 81, μ.1.1 82, μ.1.2.2.2.2 19)) (wr := [(b 0, .inr (1, [.ref (b 1), .int (μ.1.1 1), .int (μ.1.1 2), .ref (b 2), .ref (b 3), .ref (b 4), va_rf (μ.1.2.2.2.2 6 0), .ref (b 7), .ref (b 13), .ref (b 16), .int (μ.1.1 10)])), (b 1, .inl (d 2, 500, .inl (μ.1.2.2.1 1))), (b 2, .inl (d 5, 2, .inr (.inr (.inr (.inr (fun j => some (z.2.2 j))))))), (b 3, .inl (d 6, 5, .inr (.inr (.inr (.inr (fun j => some (z.2.2 (2 + j)))))))), (b 4, .inr (4, [.int (μ.1.1 20), .long (μ.1.2.1 21), .long (μ.1.2.1 22), .long (μ.1.2.1 23), .ref (b 5), .ref (b 6), .ref (b 0)])), (b 5, .inr (2, [.long (μ.1.2.1 30), .long (μ.1.2.1 31)])), (b 6, .inr (2, [.long (μ.1.2.1 32), .long (μ.1.2.1 33)])), (b 7, .inr (6, [.int (μ.1.1 40), .int (μ.1.1 41), .int (μ.1.1 42), .int (μ.1.1 43), .int (μ.1.1 44), .int (μ.1.1 45), .ref (b 8), .ref (b 9), .ref (b 10), .int (μ.1.1 49), .ref (b 11), .ref (b 12), .int (μ.1.1 52)])), (b 8, .inl (d 0, 16, .inl (μ.1.2.2.1 46))), (b 9, .inl (d 1, 16, .inr (.inl (μ.1.2.2.2.1 47)))), (b 10, .inl (d 1, 16, .inr (.inl (μ.1.2.2.2.1 48)))), (b 11, .inl (d 0, 8, .inl (μ.1.2.2.1 50))), (b 12, .inl (d 0, 8, .inl (μ.1.2.2.1 51))), (b 13, .inr (8, [.int (μ.1.1 60), .int (μ.1.1 61), .int (μ.1.1 62), .int (μ.1.1 63), .ref (b 14), .ref (b 15), .int (μ.1.1 66), .ref (b 17)])), (b 14, .inl (d 0, 100, .inl (μ.1.2.2.1 64))), (b 15, .inl (d 3, 100, .inl (μ.1.2.2.1 65))), (b 17, .inr (18, [.int (μ.1.1 70), .ref (b 18), .int (μ.1.1 72)])), (b 18, .inl (d 4, 16, .inr (.inr (.inr (.inr (μ.1.2.2.2.2 18))))))]) (w := XW d z b μ.1) (tl := μ.2) hD rfl rfl rfl
    refine runW_rS (va_runV (As := []) (rest := []) S (tJ2_removeFirst l D d z (b 16) (b 19) ([(b 0, .inr (1, [.ref (b 1), .int (μ.1.1 1), .int (μ.1.1 2), .ref (b 2), .ref (b 3), .ref (b 4), va_rf (μ.1.2.2.2.2 6 0), .ref (b 7), .ref (b 13), .ref (b 16), .int (μ.1.1 10)])), (b 1, .inl (d 2, 500, .inl (μ.1.2.2.1 1))), (b 2, .inl (d 5, 2, .inr (.inr (.inr (.inr (fun j => some (z.2.2 j))))))), (b 3, .inl (d 6, 5, .inr (.inr (.inr (.inr (fun j => some (z.2.2 (2 + j)))))))), (b 4, .inr (4, [.int (μ.1.1 20), .long (μ.1.2.1 21), .long (μ.1.2.1 22), .long (μ.1.2.1 23), .ref (b 5), .ref (b 6), .ref (b 0)])), (b 5, .inr (2, [.long (μ.1.2.1 30), .long (μ.1.2.1 31)])), (b 6, .inr (2, [.long (μ.1.2.1 32), .long (μ.1.2.1 33)])), (b 7, .inr (6, [.int (μ.1.1 40), .int (μ.1.1 41), .int (μ.1.1 42), .int (μ.1.1 43), .int (μ.1.1 44), .int (μ.1.1 45), .ref (b 8), .ref (b 9), .ref (b 10), .int (μ.1.1 49), .ref (b 11), .ref (b 12), .int (μ.1.1 52)])), (b 8, .inl (d 0, 16, .inl (μ.1.2.2.1 46))), (b 9, .inl (d 1, 16, .inr (.inl (μ.1.2.2.2.1 47)))), (b 10, .inl (d 1, 16, .inr (.inl (μ.1.2.2.2.1 48)))), (b 11, .inl (d 0, 8, .inl (μ.1.2.2.1 50))), (b 12, .inl (d 0, 8, .inl (μ.1.2.2.1 51))), (b 13, .inr (8, [.int (μ.1.1 60), .int (μ.1.1 61), .int (μ.1.1 62), .int (μ.1.1 63), .ref (b 14), .ref (b 15), .int (μ.1.1 66), .ref (b 17)])), (b 14, .inl (d 0, 100, .inl (μ.1.2.2.1 64))), (b 15, .inl (d 3, 100, .inl (μ.1.2.2.1 65))), (b 17, .inr (18, [.int (μ.1.1 70), .ref (b 18), .int (μ.1.1 72)])), (b 18, .inl (d 4, 16, .inr (.inr (.inr (.inr (μ.1.2.2.2.2 18))))))] ++ μ.2) K (μ.1.1 81, μ.1.1 82, μ.1.2.2.2.2 19) r_16 ζ_17 h_15 _) (cwV 0 hts (lw_V q910 q911 q912 q100 q913) rfl rfl rfl (by decide +kernel) ⟨(Nat.le_of_ble_eq_true rfl), (Nat.le_of_ble_eq_true rfl)⟩) ⟨Pw.blind, (va_recv hK.1 hP (ci := 17) (q0 := 18) rfl rfl), fun U hU hW => Pw.at hK hPc hDc hZ hS hA hU hW⟩ rfl rfl hl.1 rfl (lv_room (Nat.le_of_ble_eq_true rfl)) dX0_remember_16 ⟨(Nat.le_of_ble_eq_true rfl), (Nat.le_of_ble_eq_true rfl)⟩) hPc hDc hS hA ?_
    clear hP hD hS hPc hDc
    intro _ _ H locs hP hD hS
    replace hP := ofT_P (perm := [2, 3, 4, 5, 6, 7, 8, 9, 10, 11, 12, 13, 14, 15, 16, 17, 18, 19, 0, 1]) (w' := XW d z b ζ_18.1) hP (by subst e_ζ_18; rfl)
    replace hD := ofT_D (perm := [2, 3, 4, 5, 6, 7, 8, 9, 10, 11, 12, 13, 14, 15, 16, 17, 18, 19, 0, 1]) (w' := XW d z b ζ_18.1) hD rfl (by subst e_ζ_18; rfl)
    rw [show μ.2 = ζ_18.2 from by subst e_ζ_18; rfl] at hP hD
    clear h_15
    replace hf := nmU hf ζ_18 e_ζ_18
    clear e_ζ_18
    refine lv_pop hx hb dX0_remember_19 rfl ?_
    refine lv_aload_n hx hb dX0_remember_20 rfl (lv_at hl 0 rfl) ?_
    refine g_get hx hb hts S.2.2.2.1 hK hP in_X0 0 rfl rfl 9 (by decide) q294 (fun _ h9 => h9) (v := .ref (b 16)) rfl dX0_remember_21 ?_
    refine g_newT (w := XW d z b ζ_18.1) (tl := ζ_18.2) hx hb hts S.2.2.2.1 hK hP hD hS hA (ci := 8) in_X8 tyX8 tyX8_ok q778 q779 q116 rfl (fs := [.int (0 : Int32), .int (0 : Int32), .int (0 : Int32), .int (0 : Int32), .null, .null, .int (0 : Int32), .null]) (fun j hj => by rcases (show j = 0 ∨ j = 1 ∨ j = 2 ∨ j = 3 ∨ j = 4 ∨ j = 5 ∨ j = 6 ∨ j = 7 by omega) with rfl | rfl | rfl | rfl | rfl | rfl | rfl | rfl <;> rfl) (Nat.le_of_ble_eq_true rfl) (Nat.le_of_ble_eq_true rfl) (w1 := fun q => (XW d z b ζ_18.1 ++ [(q, .inr (8, [.int (0 : Int32), .int (0 : Int32), .int (0 : Int32), .int (0 : Int32), .null, .null, .int (0 : Int32), .null]))])) (fun _ => rfl) dX0_remember_24 ?_
    clear hP hD hS
    intro q_19 H hP hD hS
    replace hf := askU hf q_19
    refine lv_dup hx hb dX0_remember_27 rfl ?_
    refine lv_aload_n hx hb dX0_remember_28 rfl (lv_at hl 0 rfl) ?_
    refine g_get hx hb hts S.2.2.2.1 hK hP in_X0 0 rfl rfl 8 (by decide) q293 (fun _ h9 => h9) (v := .ref (b 13)) rfl dX0_remember_29 ?_
    obtain ⟨y_21, h_20, hf⟩ := b1u_some hf
    have hPc := toT_P (isC := [13, 14, 15, 16, 17, 20]) (isR := [0, 1, 2, 3, 4, 5, 6, 7, 8, 9, 10, 11, 12, 18, 19]) (wc := (SGP d b ζ_18.1 ++ [(q_19, .inr (8, [.int (0 : Int32), .int (0 : Int32), .int (0 : Int32), .int (0 : Int32), .null, .null, .int (0 : Int32), .null]))])) (wr := [(b 0, .inr (1, [.ref (b 1), .int (ζ_18.1.1 1), .int (ζ_18.1.1 2), .ref (b 2), .ref (b 3), .ref (b 4), va_rf (ζ_18.1.2.2.2.2 6 0), .ref (b 7), .ref (b 13), .ref (b 16), .int (ζ_18.1.1 10)])), (b 1, .inl (d 2, 500, .inl (ζ_18.1.2.2.1 1))), (b 2, .inl (d 5, 2, .inr (.inr (.inr (.inr (fun j => some (z.2.2 j))))))), (b 3, .inl (d 6, 5, .inr (.inr (.inr (.inr (fun j => some (z.2.2 (2 + j)))))))), (b 4, .inr (4, [.int (ζ_18.1.1 20), .long (ζ_18.1.2.1 21), .long (ζ_18.1.2.1 22), .long (ζ_18.1.2.1 23), .ref (b 5), .ref (b 6), .ref (b 0)])), (b 5, .inr (2, [.long (ζ_18.1.2.1 30), .long (ζ_18.1.2.1 31)])), (b 6, .inr (2, [.long (ζ_18.1.2.1 32), .long (ζ_18.1.2.1 33)])), (b 7, .inr (6, [.int (ζ_18.1.1 40), .int (ζ_18.1.1 41), .int (ζ_18.1.1 42), .int (ζ_18.1.1 43), .int (ζ_18.1.1 44), .int (ζ_18.1.1 45), .ref (b 8), .ref (b 9), .ref (b 10), .int (ζ_18.1.1 49), .ref (b 11), .ref (b 12), .int (ζ_18.1.1 52)])), (b 8, .inl (d 0, 16, .inl (ζ_18.1.2.2.1 46))), (b 9, .inl (d 1, 16, .inr (.inl (ζ_18.1.2.2.2.1 47)))), (b 10, .inl (d 1, 16, .inr (.inl (ζ_18.1.2.2.2.1 48)))), (b 11, .inl (d 0, 8, .inl (ζ_18.1.2.2.1 50))), (b 12, .inl (d 0, 8, .inl (ζ_18.1.2.2.1 51))), (b 16, .inr (17, [.ref (b 19), .int (ζ_18.1.1 81), .int (ζ_18.1.1 82)])), (b 19, .inl (d 4, 17, .inr (.inr (.inr (.inr (ζ_18.1.2.2.2.2 19))))))]) (w := (XW d z b ζ_18.1 ++ [(q_19, .inr (8, [.int (0 : Int32), .int (0 : Int32), .int (0 : Int32), .int (0 : Int32), .null, .null, .int (0 : Int32), .null]))])) (tl := ζ_18.2) hP rfl rfl
    have hDc := toT_D (isC := [13, 14, 15, 16, 17, 20]) (isR := [0, 1, 2, 3, 4, 5, 6, 7, 8, 9, 10, 11, 12, 18, 19]) (wc := (SGP d b ζ_18.1 ++ [(q_19, .inr (8, [.int (0 : Int32), .int (0 : Int32), .int (0 : Int32), .int (0 : Int32), .null, .null, .int (0 : Int32), .null]))])) (wr := [(b 0, .inr (1, [.ref (b 1), .int (ζ_18.1.1 1), .int (ζ_18.1.1 2), .ref (b 2), .ref (b 3), .ref (b 4), va_rf (ζ_18.1.2.2.2.2 6 0), .ref (b 7), .ref (b 13), .ref (b 16), .int (ζ_18.1.1 10)])), (b 1, .inl (d 2, 500, .inl (ζ_18.1.2.2.1 1))), (b 2, .inl (d 5, 2, .inr (.inr (.inr (.inr (fun j => some (z.2.2 j))))))), (b 3, .inl (d 6, 5, .inr (.inr (.inr (.inr (fun j => some (z.2.2 (2 + j)))))))), (b 4, .inr (4, [.int (ζ_18.1.1 20), .long (ζ_18.1.2.1 21), .long (ζ_18.1.2.1 22), .long (ζ_18.1.2.1 23), .ref (b 5), .ref (b 6), .ref (b 0)])), (b 5, .inr (2, [.long (ζ_18.1.2.1 30), .long (ζ_18.1.2.1 31)])), (b 6, .inr (2, [.long (ζ_18.1.2.1 32), .long (ζ_18.1.2.1 33)])), (b 7, .inr (6, [.int (ζ_18.1.1 40), .int (ζ_18.1.1 41), .int (ζ_18.1.1 42), .int (ζ_18.1.1 43), .int (ζ_18.1.1 44), .int (ζ_18.1.1 45), .ref (b 8), .ref (b 9), .ref (b 10), .int (ζ_18.1.1 49), .ref (b 11), .ref (b 12), .int (ζ_18.1.1 52)])), (b 8, .inl (d 0, 16, .inl (ζ_18.1.2.2.1 46))), (b 9, .inl (d 1, 16, .inr (.inl (ζ_18.1.2.2.2.1 47)))), (b 10, .inl (d 1, 16, .inr (.inl (ζ_18.1.2.2.2.1 48)))), (b 11, .inl (d 0, 8, .inl (ζ_18.1.2.2.1 50))), (b 12, .inl (d 0, 8, .inl (ζ_18.1.2.2.1 51))), (b 16, .inr (17, [.ref (b 19), .int (ζ_18.1.1 81), .int (ζ_18.1.1 82)])), (b 19, .inl (d 4, 17, .inr (.inr (.inr (.inr (ζ_18.1.2.2.2.2 19))))))]) (w := (XW d z b ζ_18.1 ++ [(q_19, .inr (8, [.int (0 : Int32), .int (0 : Int32), .int (0 : Int32), .int (0 : Int32), .null, .null, .int (0 : Int32), .null]))])) (tl := ζ_18.2) hD rfl rfl rfl
    refine runW_vS (va_runI (As := [.ref (b 13)]) (rest := [.ref q_19, .ref (b 16)]) S (tX8_init_2c l D d z b ([(b 0, .inr (1, [.ref (b 1), .int (ζ_18.1.1 1), .int (ζ_18.1.1 2), .ref (b 2), .ref (b 3), .ref (b 4), va_rf (ζ_18.1.2.2.2.2 6 0), .ref (b 7), .ref (b 13), .ref (b 16), .int (ζ_18.1.1 10)])), (b 1, .inl (d 2, 500, .inl (ζ_18.1.2.2.1 1))), (b 2, .inl (d 5, 2, .inr (.inr (.inr (.inr (fun j => some (z.2.2 j))))))), (b 3, .inl (d 6, 5, .inr (.inr (.inr (.inr (fun j => some (z.2.2 (2 + j)))))))), (b 4, .inr (4, [.int (ζ_18.1.1 20), .long (ζ_18.1.2.1 21), .long (ζ_18.1.2.1 22), .long (ζ_18.1.2.1 23), .ref (b 5), .ref (b 6), .ref (b 0)])), (b 5, .inr (2, [.long (ζ_18.1.2.1 30), .long (ζ_18.1.2.1 31)])), (b 6, .inr (2, [.long (ζ_18.1.2.1 32), .long (ζ_18.1.2.1 33)])), (b 7, .inr (6, [.int (ζ_18.1.1 40), .int (ζ_18.1.1 41), .int (ζ_18.1.1 42), .int (ζ_18.1.1 43), .int (ζ_18.1.1 44), .int (ζ_18.1.1 45), .ref (b 8), .ref (b 9), .ref (b 10), .int (ζ_18.1.1 49), .ref (b 11), .ref (b 12), .int (ζ_18.1.1 52)])), (b 8, .inl (d 0, 16, .inl (ζ_18.1.2.2.1 46))), (b 9, .inl (d 1, 16, .inr (.inl (ζ_18.1.2.2.2.1 47)))), (b 10, .inl (d 1, 16, .inr (.inl (ζ_18.1.2.2.2.1 48)))), (b 11, .inl (d 0, 8, .inl (ζ_18.1.2.2.1 50))), (b 12, .inl (d 0, 8, .inl (ζ_18.1.2.2.1 51))), (b 16, .inr (17, [.ref (b 19), .int (ζ_18.1.1 81), .int (ζ_18.1.1 82)])), (b 19, .inl (d 4, 17, .inr (.inr (.inr (.inr (ζ_18.1.2.2.2.2 19))))))] ++ ζ_18.2) K q_19 ζ_18.2 (fun q h => List.mem_append_right _ h) ζ_18.1 y_21 h_20 _) (cwI 1 hts (lw_meth q926) rfl rfl rfl (hts _ q116) (hts _ q924) (hts _ q925) rfl (by decide +kernel) ⟨(Nat.le_of_ble_eq_true rfl), (Nat.le_of_ble_eq_true rfl)⟩) ⟨Pw.blind, fun U hU hW => Pw.at hK hPc hDc hZ hS hA hU hW⟩ rfl rfl hl.1 rfl (lv_room (Nat.le_of_ble_eq_true rfl)) dX0_remember_32 ⟨(Nat.le_of_ble_eq_true rfl), (Nat.le_of_ble_eq_true rfl)⟩) hPc hDc hS hA ?_
    clear hP hD hS hPc hDc
    intro u_23 _ H locs hP hD hS
    replace hf := hf u_23
    generalize y_21 u_23 = ζ_22 at hf hP hD
    obtain ⟨ζ_25, e_ζ_25⟩ : ∃ x, x = (ζ_18.1, ζ_22 ++ ζ_18.2) := ⟨_, rfl⟩
    replace hP := cp_P (wc := SGP d b ζ_18.1) (wr := [(b 0, .inr (1, [.ref (b 1), .int (ζ_18.1.1 1), .int (ζ_18.1.1 2), .ref (b 2), .ref (b 3), .ref (b 4), va_rf (ζ_18.1.2.2.2.2 6 0), .ref (b 7), .ref (b 13), .ref (b 16), .int (ζ_18.1.1 10)])), (b 1, .inl (d 2, 500, .inl (ζ_18.1.2.2.1 1))), (b 2, .inl (d 5, 2, .inr (.inr (.inr (.inr (fun j => some (z.2.2 j))))))), (b 3, .inl (d 6, 5, .inr (.inr (.inr (.inr (fun j => some (z.2.2 (2 + j)))))))), (b 4, .inr (4, [.int (ζ_18.1.1 20), .long (ζ_18.1.2.1 21), .long (ζ_18.1.2.1 22), .long (ζ_18.1.2.1 23), .ref (b 5), .ref (b 6), .ref (b 0)])), (b 5, .inr (2, [.long (ζ_18.1.2.1 30), .long (ζ_18.1.2.1 31)])), (b 6, .inr (2, [.long (ζ_18.1.2.1 32), .long (ζ_18.1.2.1 33)])), (b 7, .inr (6, [.int (ζ_18.1.1 40), .int (ζ_18.1.1 41), .int (ζ_18.1.1 42), .int (ζ_18.1.1 43), .int (ζ_18.1.1 44), .int (ζ_18.1.1 45), .ref (b 8), .ref (b 9), .ref (b 10), .int (ζ_18.1.1 49), .ref (b 11), .ref (b 12), .int (ζ_18.1.1 52)])), (b 8, .inl (d 0, 16, .inl (ζ_18.1.2.2.1 46))), (b 9, .inl (d 1, 16, .inr (.inl (ζ_18.1.2.2.2.1 47)))), (b 10, .inl (d 1, 16, .inr (.inl (ζ_18.1.2.2.2.1 48)))), (b 11, .inl (d 0, 8, .inl (ζ_18.1.2.2.1 50))), (b 12, .inl (d 0, 8, .inl (ζ_18.1.2.2.1 51))), (b 16, .inr (17, [.ref (b 19), .int (ζ_18.1.1 81), .int (ζ_18.1.1 82)])), (b 19, .inl (d 4, 17, .inr (.inr (.inr (.inr (ζ_18.1.2.2.2.2 19))))))]) hP
    replace hD := cp_D (wc := SGP d b ζ_18.1) (wr := [(b 0, .inr (1, [.ref (b 1), .int (ζ_18.1.1 1), .int (ζ_18.1.1 2), .ref (b 2), .ref (b 3), .ref (b 4), va_rf (ζ_18.1.2.2.2.2 6 0), .ref (b 7), .ref (b 13), .ref (b 16), .int (ζ_18.1.1 10)])), (b 1, .inl (d 2, 500, .inl (ζ_18.1.2.2.1 1))), (b 2, .inl (d 5, 2, .inr (.inr (.inr (.inr (fun j => some (z.2.2 j))))))), (b 3, .inl (d 6, 5, .inr (.inr (.inr (.inr (fun j => some (z.2.2 (2 + j)))))))), (b 4, .inr (4, [.int (ζ_18.1.1 20), .long (ζ_18.1.2.1 21), .long (ζ_18.1.2.1 22), .long (ζ_18.1.2.1 23), .ref (b 5), .ref (b 6), .ref (b 0)])), (b 5, .inr (2, [.long (ζ_18.1.2.1 30), .long (ζ_18.1.2.1 31)])), (b 6, .inr (2, [.long (ζ_18.1.2.1 32), .long (ζ_18.1.2.1 33)])), (b 7, .inr (6, [.int (ζ_18.1.1 40), .int (ζ_18.1.1 41), .int (ζ_18.1.1 42), .int (ζ_18.1.1 43), .int (ζ_18.1.1 44), .int (ζ_18.1.1 45), .ref (b 8), .ref (b 9), .ref (b 10), .int (ζ_18.1.1 49), .ref (b 11), .ref (b 12), .int (ζ_18.1.1 52)])), (b 8, .inl (d 0, 16, .inl (ζ_18.1.2.2.1 46))), (b 9, .inl (d 1, 16, .inr (.inl (ζ_18.1.2.2.2.1 47)))), (b 10, .inl (d 1, 16, .inr (.inl (ζ_18.1.2.2.2.1 48)))), (b 11, .inl (d 0, 8, .inl (ζ_18.1.2.2.1 50))), (b 12, .inl (d 0, 8, .inl (ζ_18.1.2.2.1 51))), (b 16, .inr (17, [.ref (b 19), .int (ζ_18.1.1 81), .int (ζ_18.1.1 82)])), (b 19, .inl (d 4, 17, .inr (.inr (.inr (.inr (ζ_18.1.2.2.2.2 19))))))]) hD
    replace hP := ofT_P (perm := [5, 6, 7, 8, 9, 10, 11, 12, 13, 14, 15, 16, 17, 0, 1, 2, 3, 4, 18, 19]) (wr := [(b 0, .inr (1, [.ref (b 1), .int (ζ_18.1.1 1), .int (ζ_18.1.1 2), .ref (b 2), .ref (b 3), .ref (b 4), va_rf (ζ_18.1.2.2.2.2 6 0), .ref (b 7), .ref (b 13), .ref (b 16), .int (ζ_18.1.1 10)])), (b 1, .inl (d 2, 500, .inl (ζ_18.1.2.2.1 1))), (b 2, .inl (d 5, 2, .inr (.inr (.inr (.inr (fun j => some (z.2.2 j))))))), (b 3, .inl (d 6, 5, .inr (.inr (.inr (.inr (fun j => some (z.2.2 (2 + j)))))))), (b 4, .inr (4, [.int (ζ_18.1.1 20), .long (ζ_18.1.2.1 21), .long (ζ_18.1.2.1 22), .long (ζ_18.1.2.1 23), .ref (b 5), .ref (b 6), .ref (b 0)])), (b 5, .inr (2, [.long (ζ_18.1.2.1 30), .long (ζ_18.1.2.1 31)])), (b 6, .inr (2, [.long (ζ_18.1.2.1 32), .long (ζ_18.1.2.1 33)])), (b 7, .inr (6, [.int (ζ_18.1.1 40), .int (ζ_18.1.1 41), .int (ζ_18.1.1 42), .int (ζ_18.1.1 43), .int (ζ_18.1.1 44), .int (ζ_18.1.1 45), .ref (b 8), .ref (b 9), .ref (b 10), .int (ζ_18.1.1 49), .ref (b 11), .ref (b 12), .int (ζ_18.1.1 52)])), (b 8, .inl (d 0, 16, .inl (ζ_18.1.2.2.1 46))), (b 9, .inl (d 1, 16, .inr (.inl (ζ_18.1.2.2.2.1 47)))), (b 10, .inl (d 1, 16, .inr (.inl (ζ_18.1.2.2.2.1 48)))), (b 11, .inl (d 0, 8, .inl (ζ_18.1.2.2.1 50))), (b 12, .inl (d 0, 8, .inl (ζ_18.1.2.2.1 51))), (b 16, .inr (17, [.ref (b 19), .int (ζ_18.1.1 81), .int (ζ_18.1.1 82)])), (b 19, .inl (d 4, 17, .inr (.inr (.inr (.inr (ζ_18.1.2.2.2.2 19))))))]) (tl := ζ_22 ++ ζ_18.2) (w' := XW d z b ζ_25.1) hP (by subst e_ζ_25; rfl)
    replace hD := ofT_D (perm := [5, 6, 7, 8, 9, 10, 11, 12, 13, 14, 15, 16, 17, 0, 1, 2, 3, 4, 18, 19]) (wr := [(b 0, .inr (1, [.ref (b 1), .int (ζ_18.1.1 1), .int (ζ_18.1.1 2), .ref (b 2), .ref (b 3), .ref (b 4), va_rf (ζ_18.1.2.2.2.2 6 0), .ref (b 7), .ref (b 13), .ref (b 16), .int (ζ_18.1.1 10)])), (b 1, .inl (d 2, 500, .inl (ζ_18.1.2.2.1 1))), (b 2, .inl (d 5, 2, .inr (.inr (.inr (.inr (fun j => some (z.2.2 j))))))), (b 3, .inl (d 6, 5, .inr (.inr (.inr (.inr (fun j => some (z.2.2 (2 + j)))))))), (b 4, .inr (4, [.int (ζ_18.1.1 20), .long (ζ_18.1.2.1 21), .long (ζ_18.1.2.1 22), .long (ζ_18.1.2.1 23), .ref (b 5), .ref (b 6), .ref (b 0)])), (b 5, .inr (2, [.long (ζ_18.1.2.1 30), .long (ζ_18.1.2.1 31)])), (b 6, .inr (2, [.long (ζ_18.1.2.1 32), .long (ζ_18.1.2.1 33)])), (b 7, .inr (6, [.int (ζ_18.1.1 40), .int (ζ_18.1.1 41), .int (ζ_18.1.1 42), .int (ζ_18.1.1 43), .int (ζ_18.1.1 44), .int (ζ_18.1.1 45), .ref (b 8), .ref (b 9), .ref (b 10), .int (ζ_18.1.1 49), .ref (b 11), .ref (b 12), .int (ζ_18.1.1 52)])), (b 8, .inl (d 0, 16, .inl (ζ_18.1.2.2.1 46))), (b 9, .inl (d 1, 16, .inr (.inl (ζ_18.1.2.2.2.1 47)))), (b 10, .inl (d 1, 16, .inr (.inl (ζ_18.1.2.2.2.1 48)))), (b 11, .inl (d 0, 8, .inl (ζ_18.1.2.2.1 50))), (b 12, .inl (d 0, 8, .inl (ζ_18.1.2.2.1 51))), (b 16, .inr (17, [.ref (b 19), .int (ζ_18.1.1 81), .int (ζ_18.1.1 82)])), (b 19, .inl (d 4, 17, .inr (.inr (.inr (.inr (ζ_18.1.2.2.2.2 19))))))]) (tl := ζ_22 ++ ζ_18.2) (w' := XW d z b ζ_25.1) hD rfl (by subst e_ζ_25; rfl)
    rw [show ζ_22 ++ ζ_18.2 = ζ_25.2 from by subst e_ζ_25; rfl] at hP hD
    clear h_20
    replace hf := nmU hf ζ_25 e_ζ_25
    clear e_ζ_25
    replace hf := hf (fun _ => 0)
    obtain ⟨he_26, hf⟩ := gaP_some hf
    obtain ⟨ζ_28, h_27, hf⟩ := b1_some hf
    obtain ⟨ζ_29, e_ζ_29⟩ : ∃ x, x = (xP (xI (xI ζ_25.1 81 ζ_28.1) 82 ζ_28.2.1) 19 ζ_28.2.2, ζ_25.2) := ⟨_, rfl⟩
    have hPc := toT_P (isC := [18, 19]) (isR := [0, 1, 2, 3, 4, 5, 6, 7, 8, 9, 10, 11, 12, 13, 14, 15, 16, 17]) (wc := ADP d (b 16) (b 19) (ζ_25.1.1 81, ζ_25.1.1 82, ζ_25.1.2.2.2.2 19)) (wr := [(b 0, .inr (1, [.ref (b 1), .int (ζ_25.1.1 1), .int (ζ_25.1.1 2), .ref (b 2), .ref (b 3), .ref (b 4), va_rf (ζ_25.1.2.2.2.2 6 0), .ref (b 7), .ref (b 13), .ref (b 16), .int (ζ_25.1.1 10)])), (b 1, .inl (d 2, 500, .inl (ζ_25.1.2.2.1 1))), (b 2, .inl (d 5, 2, .inr (.inr (.inr (.inr (fun j => some (z.2.2 j))))))), (b 3, .inl (d 6, 5, .inr (.inr (.inr (.inr (fun j => some (z.2.2 (2 + j)))))))), (b 4, .inr (4, [.int (ζ_25.1.1 20), .long (ζ_25.1.2.1 21), .long (ζ_25.1.2.1 22), .long (ζ_25.1.2.1 23), .ref (b 5), .ref (b 6), .ref (b 0)])), (b 5, .inr (2, [.long (ζ_25.1.2.1 30), .long (ζ_25.1.2.1 31)])), (b 6, .inr (2, [.long (ζ_25.1.2.1 32), .long (ζ_25.1.2.1 33)])), (b 7, .inr (6, [.int (ζ_25.1.1 40), .int (ζ_25.1.1 41), .int (ζ_25.1.1 42), .int (ζ_25.1.1 43), .int (ζ_25.1.1 44), .int (ζ_25.1.1 45), .ref (b 8), .ref (b 9), .ref (b 10), .int (ζ_25.1.1 49), .ref (b 11), .ref (b 12), .int (ζ_25.1.1 52)])), (b 8, .inl (d 0, 16, .inl (ζ_25.1.2.2.1 46))), (b 9, .inl (d 1, 16, .inr (.inl (ζ_25.1.2.2.2.1 47)))), (b 10, .inl (d 1, 16, .inr (.inl (ζ_25.1.2.2.2.1 48)))), (b 11, .inl (d 0, 8, .inl (ζ_25.1.2.2.1 50))), (b 12, .inl (d 0, 8, .inl (ζ_25.1.2.2.1 51))), (b 13, .inr (8, [.int (ζ_25.1.1 60), .int (ζ_25.1.1 61), .int (ζ_25.1.1 62), .int (ζ_25.1.1 63), .ref (b 14), .ref (b 15), .int (ζ_25.1.1 66), .ref (b 17)])), (b 14, .inl (d 0, 100, .inl (ζ_25.1.2.2.1 64))), (b 15, .inl (d 3, 100, .inl (ζ_25.1.2.2.1 65))), (b 17, .inr (18, [.int (ζ_25.1.1 70), .ref (b 18), .int (ζ_25.1.1 72)])), (b 18, .inl (d 4, 16, .inr (.inr (.inr (.inr (ζ_25.1.2.2.2.2 18))))))]) (w := XW d z b ζ_25.1) (tl := ζ_25.2) hP rfl rfl
    have hDc := toT_D (isC := [18, 19]) (isR := [0, 1, 2, 3, 4, 5, 6, 7, 8, 9, 10, 11, 12, 13, 14, 15, 16, 17]) (wc := ADP d (b 16) (b 19) (ζ_25.1.1 81, ζ_25.1.1 82, ζ_25.1.2.2.2.2 19)) (wr := [(b 0, .inr (1, [.ref (b 1), .int (ζ_25.1.1 1), .int (ζ_25.1.1 2), .ref (b 2), .ref (b 3), .ref (b 4), va_rf (ζ_25.1.2.2.2.2 6 0), .ref (b 7), .ref (b 13), .ref (b 16), .int (ζ_25.1.1 10)])), (b 1, .inl (d 2, 500, .inl (ζ_25.1.2.2.1 1))), (b 2, .inl (d 5, 2, .inr (.inr (.inr (.inr (fun j => some (z.2.2 j))))))), (b 3, .inl (d 6, 5, .inr (.inr (.inr (.inr (fun j => some (z.2.2 (2 + j)))))))), (b 4, .inr (4, [.int (ζ_25.1.1 20), .long (ζ_25.1.2.1 21), .long (ζ_25.1.2.1 22), .long (ζ_25.1.2.1 23), .ref (b 5), .ref (b 6), .ref (b 0)])), (b 5, .inr (2, [.long (ζ_25.1.2.1 30), .long (ζ_25.1.2.1 31)])), (b 6, .inr (2, [.long (ζ_25.1.2.1 32), .long (ζ_25.1.2.1 33)])), (b 7, .inr (6, [.int (ζ_25.1.1 40), .int (ζ_25.1.1 41), .int (ζ_25.1.1 42), .int (ζ_25.1.1 43), .int (ζ_25.1.1 44), .int (ζ_25.1.1 45), .ref (b 8), .ref (b 9), .ref (b 10), .int (ζ_25.1.1 49), .ref (b 11), .ref (b 12), .int (ζ_25.1.1 52)])), (b 8, .inl (d 0, 16, .inl (ζ_25.1.2.2.1 46))), (b 9, .inl (d 1, 16, .inr (.inl (ζ_25.1.2.2.2.1 47)))), (b 10, .inl (d 1, 16, .inr (.inl (ζ_25.1.2.2.2.1 48)))), (b 11, .inl (d 0, 8, .inl (ζ_25.1.2.2.1 50))), (b 12, .inl (d 0, 8, .inl (ζ_25.1.2.2.1 51))), (b 13, .inr (8, [.int (ζ_25.1.1 60), .int (ζ_25.1.1 61), .int (ζ_25.1.1 62), .int (ζ_25.1.1 63), .ref (b 14), .ref (b 15), .int (ζ_25.1.1 66), .ref (b 17)])), (b 14, .inl (d 0, 100, .inl (ζ_25.1.2.2.1 64))), (b 15, .inl (d 3, 100, .inl (ζ_25.1.2.2.1 65))), (b 17, .inr (18, [.int (ζ_25.1.1 70), .ref (b 18), .int (ζ_25.1.1 72)])), (b 18, .inl (d 4, 16, .inr (.inr (.inr (.inr (ζ_25.1.2.2.2.2 18))))))]) (w := XW d z b ζ_25.1) (tl := ζ_25.2) hD rfl rfl rfl
    refine runW_v (va_runV (As := [.ref q_19]) (rest := []) S (tJ2_addLast l D d z (b 16) (b 19) ([(b 0, .inr (1, [.ref (b 1), .int (ζ_25.1.1 1), .int (ζ_25.1.1 2), .ref (b 2), .ref (b 3), .ref (b 4), va_rf (ζ_25.1.2.2.2.2 6 0), .ref (b 7), .ref (b 13), .ref (b 16), .int (ζ_25.1.1 10)])), (b 1, .inl (d 2, 500, .inl (ζ_25.1.2.2.1 1))), (b 2, .inl (d 5, 2, .inr (.inr (.inr (.inr (fun j => some (z.2.2 j))))))), (b 3, .inl (d 6, 5, .inr (.inr (.inr (.inr (fun j => some (z.2.2 (2 + j)))))))), (b 4, .inr (4, [.int (ζ_25.1.1 20), .long (ζ_25.1.2.1 21), .long (ζ_25.1.2.1 22), .long (ζ_25.1.2.1 23), .ref (b 5), .ref (b 6), .ref (b 0)])), (b 5, .inr (2, [.long (ζ_25.1.2.1 30), .long (ζ_25.1.2.1 31)])), (b 6, .inr (2, [.long (ζ_25.1.2.1 32), .long (ζ_25.1.2.1 33)])), (b 7, .inr (6, [.int (ζ_25.1.1 40), .int (ζ_25.1.1 41), .int (ζ_25.1.1 42), .int (ζ_25.1.1 43), .int (ζ_25.1.1 44), .int (ζ_25.1.1 45), .ref (b 8), .ref (b 9), .ref (b 10), .int (ζ_25.1.1 49), .ref (b 11), .ref (b 12), .int (ζ_25.1.1 52)])), (b 8, .inl (d 0, 16, .inl (ζ_25.1.2.2.1 46))), (b 9, .inl (d 1, 16, .inr (.inl (ζ_25.1.2.2.2.1 47)))), (b 10, .inl (d 1, 16, .inr (.inl (ζ_25.1.2.2.2.1 48)))), (b 11, .inl (d 0, 8, .inl (ζ_25.1.2.2.1 50))), (b 12, .inl (d 0, 8, .inl (ζ_25.1.2.2.1 51))), (b 13, .inr (8, [.int (ζ_25.1.1 60), .int (ζ_25.1.1 61), .int (ζ_25.1.1 62), .int (ζ_25.1.1 63), .ref (b 14), .ref (b 15), .int (ζ_25.1.1 66), .ref (b 17)])), (b 14, .inl (d 0, 100, .inl (ζ_25.1.2.2.1 64))), (b 15, .inl (d 3, 100, .inl (ζ_25.1.2.2.1 65))), (b 17, .inr (18, [.int (ζ_25.1.1 70), .ref (b 18), .int (ζ_25.1.1 72)])), (b 18, .inl (d 4, 16, .inr (.inr (.inr (.inr (ζ_25.1.2.2.2.2 18))))))] ++ ζ_25.2) K q_19 (ζ_25.1.1 81, ζ_25.1.1 82, ζ_25.1.2.2.2.2 19) ζ_28 h_27 (he_26.imp fun _ h => List.mem_append_right _ h) _) (cwV 1 hts (lw_V q1007 q1008 q1009 q100 q1010) rfl rfl rfl (by decide +kernel) ⟨(Nat.le_of_ble_eq_true rfl), (Nat.le_of_ble_eq_true rfl)⟩) ⟨Pw.blind, (va_recv hK.1 hP (ci := 17) (q0 := 18) rfl rfl), fun U hU hW => Pw.at hK hPc hDc hZ hS hA hU hW⟩ rfl rfl hl.1 rfl (lv_room (Nat.le_of_ble_eq_true rfl)) dX0_remember_35 ⟨(Nat.le_of_ble_eq_true rfl), (Nat.le_of_ble_eq_true rfl)⟩) hPc hDc hS hA ?_
    clear hP hD hS hPc hDc
    intro H locs hP hD hS
    replace hP := ofT_P (perm := [2, 3, 4, 5, 6, 7, 8, 9, 10, 11, 12, 13, 14, 15, 16, 17, 18, 19, 0, 1]) (w' := XW d z b ζ_29.1) hP (by subst e_ζ_29; rfl)
    replace hD := ofT_D (perm := [2, 3, 4, 5, 6, 7, 8, 9, 10, 11, 12, 13, 14, 15, 16, 17, 18, 19, 0, 1]) (w' := XW d z b ζ_29.1) hD rfl (by subst e_ζ_29; rfl)
    rw [show ζ_25.2 = ζ_29.2 from by subst e_ζ_29; rfl] at hP hD
    clear h_27
    replace hf := nm_some hf ζ_29 e_ζ_29
    clear e_ζ_29
    refine W.widen (k := 5) (n := 227) (Nat.le_of_ble_eq_true rfl) (Nat.le_of_ble_eq_true rfl) ?_
    exact hret _ _ _ _ _ _ hf dX0_remember_38 hP hD hS
noncomputable def fX0_setFrequency (K : Nat) (d : Nat → ClassId) (p0 : Int32) (u : UU) (μ : XT) : Option (Int32 × XT) :=
  b2 (fX0_isReady K μ.1) fun r_2 ζ_3 =>
  nm ((xmrg μ.1 ζ_3, μ.2)) fun ζ_4 =>
  if r_2 = true then
    b1 (fX0_isFrequency K p0) fun r_6 =>
    if r_6 = true then
      b1u u (fun u => fX0_remember K d u ζ_4) fun ζ_11 u =>
      nm (ζ_11.1.1 60) fun v_13 =>
      b1 (fX8_setFrequency K p0 ζ_11.1) fun ζ_15 =>
      nm ((xmrg ζ_11.1 ζ_15, ζ_11.2)) fun ζ_16 =>
      some (v_13, ζ_16)
    else
      some ((-1 : Int32), ζ_4)
  else
    some ((-1 : Int32), ζ_4)
set_option maxHeartbeats 4000000 in
set_option maxRecDepth 100000 in
theorem tX0_setFrequency (l : Launch) (D : va_G) (d : Nat → ClassId) (z : ZT) (b : Nat → Nat) (K : Nat) (p0 : Int32) (μ : XT) (y : UU → (Int32 × XT)) (hf : ∀ u, fX0_setFrequency K d p0 u μ = some (y u)) : CIS l yX0_setFrequency (ws_ yX0_setFrequency cX0_setFrequency 3 (Option.some Jvm.ClassFile.FieldType.int)) (rmc 6 5 227 115) D d z [.ref (b 0), .int p0] (XW d z b μ.1 ++ μ.2) (fun u : UU => (y u).1) (fun u : UU => XW d z b (y u).2.1 ++ (y u).2.2) (fun _ => True) := by
  refine CIS.of (own := RX0) rfl (by decide) (Nat.le_of_ble_eq_true rfl) (fun _ => rfl) ?_
  intro p e s m args below meth c A Q ls S hin hK hP hD hZ hS hA hl hret0
  have hret : ∀ (U0 : UU) (x : Int32) (μx : XT) (H : Heap) (locs : List Loc) (pc : Nat) (ls' : Array Slot), some (x, μx) = some (y U0) → decode cX0_setFrequency pc = .ok (.ireturn, 1) → va_P D CL (XW d z b μx.1 ++ μx.2) H → va_D A (XW d z b μx.1 ++ μx.2) → va_S A s.heap H locs → W p l e (rmc 6 5 227 115) s m args below meth c H locs 5 227 Q (F0 m pc ls' [.int x]) := by
    intro U0 x μx H locs pc ls' h9 hdg hP hD hS
    have h8 := hret0 U0 trivial H locs pc ls' hdg
    rw [← Option.some.inj h9] at h8
    exact h8 hP hD hS
  have hx := S.1
  have hb := S.2.1
  have hts := S.2.2.2.2
  have hl : lv_has ls 3 [(0, .ref (b 0)), (1, .int p0)] := hl
  unfold fX0_setFrequency at hf
  refine lv_aload_n hx hb dX0_setFrequency_0 rfl (lv_at hl 0 rfl) ?_
  obtain ⟨r_2, ζ_3, h_1, hf⟩ := b2U hf
  obtain ⟨ζ_4, e_ζ_4⟩ : ∃ x, x = (xmrg μ.1 ζ_3, μ.2) := ⟨_, rfl⟩
  refine run_i (w := XW d z b μ.1) (tl := μ.2) (wr := [(b 17, .inr (18, [.int (μ.1.1 70), .ref (b 18), .int (μ.1.1 72)])), (b 18, .inl (d 4, 16, .inr (.inr (.inr (.inr (μ.1.2.2.2.2 18)))))), (b 16, .inr (17, [.ref (b 19), .int (μ.1.1 81), .int (μ.1.1 82)])), (b 19, .inl (d 4, 17, .inr (.inr (.inr (.inr (μ.1.2.2.2.2 19))))))]) (w' := XW d z b ζ_4.1) (va_runV (As := []) (rest := []) S (tX0_isReady l D d z b (μ.1.2.2.2.2 6 0) K μ.1 r_2 ζ_3 h_1 _) (cwV 0 hts (lw_V q857 q859 qs18 q94 q860) rfl rfl rfl (by decide +kernel) ⟨(Nat.le_of_ble_eq_true rfl), (Nat.le_of_ble_eq_true rfl)⟩) ⟨Pw.blind, (va_recv hK.1 hP (ci := 1) (q0 := 0) rfl rfl), fun U hU hW => Pw.cut (w := XW d z b μ.1) (tl := μ.2) hK hP hD hZ hS hA [0, 1, 2, 3, 4, 5, 6, 7, 8, 9, 10, 11, 12, 13, 14, 15] rfl rfl hU hW⟩ rfl rfl hl.1 rfl (lv_room (Nat.le_of_ble_eq_true rfl)) dX0_setFrequency_1 ⟨(Nat.le_of_ble_eq_true rfl), (Nat.le_of_ble_eq_true rfl)⟩) hP hD hS hA [0, 1, 2, 3, 4, 5, 6, 7, 8, 9, 10, 11, 12, 13, 14, 15] [16, 17, 18, 19] [4, 5, 6, 7, 8, 9, 10, 11, 12, 13, 14, 15, 16, 17, 18, 19, 0, 1, 2, 3] rfl rfl rfl rfl (by decide) rfl (by subst e_ζ_4; rfl) ?_
  clear hP hD hS
  intro H locs hP hD hS
  rw [show μ.2 = ζ_4.2 from by subst e_ζ_4; rfl] at hP hD
  clear h_1
  replace hf := nmU hf ζ_4 e_ζ_4
  clear e_ζ_4
  refine lv_if_eq (tgt := 14) hx hb dX0_setFrequency_4 (by decide) (fun c_5 => ?_) (fun c_5 => ?_)
  · replace hf := itU_f hf (bi_e0 c_5)
    clear c_5
    replace hf := hf (fun _ => 0)
    refine lv_iconst (v := -1) hx hb dX0_setFrequency_14 (by decide) ?_
    refine W.widen (k := 5) (n := 227) (Nat.le_of_ble_eq_true rfl) (Nat.le_of_ble_eq_true rfl) ?_
    exact hret _ _ _ _ _ _ _ hf dX0_setFrequency_15 hP hD hS
  · replace hf := itU_t hf (bi_n0 c_5)
    clear c_5
    refine lv_iload_n hx hb dX0_setFrequency_7 rfl (lv_at hl 1 rfl) ?_
    obtain ⟨r_6, h_7, hf⟩ := b1U hf
    refine si_call S (tX0_isFrequency l K p0 _ h_7) (va_cwS 1 hts (lw_S q861 q862 q94 q863) rfl rfl rfl (by decide +kernel) ⟨(Nat.le_of_ble_eq_true rfl), (Nat.le_of_ble_eq_true rfl)⟩) rfl hl.1 rfl (Nat.le_of_ble_eq_true rfl) ⟨(Nat.le_of_ble_eq_true rfl), (Nat.le_of_ble_eq_true rfl)⟩ dX0_setFrequency_8 ?_
    clear h_7
    refine lv_if_ne (tgt := 16) hx hb dX0_setFrequency_11 (by decide) (fun c_8 => ?_) (fun c_8 => ?_)
    · replace hf := itU_t hf (bi_n0 c_8)
      clear c_8
      refine lv_aload_n hx hb dX0_setFrequency_16 rfl (lv_at hl 0 rfl) ?_
      obtain ⟨y_10, h_9, hf⟩ := b1u_some hf
      refine runW_vS (va_runV (As := []) (rest := []) S (tX0_remember l D d z b K ζ_4 y_10 h_9 _) (cwV 0 hts (lw_V q899 q901 qs20 q94 q902) rfl rfl rfl (by decide +kernel) ⟨(Nat.le_of_ble_eq_true rfl), (Nat.le_of_ble_eq_true rfl)⟩) ⟨Pw.blind, (va_recv hK.1 hP (ci := 1) (q0 := 0) rfl rfl), fun U hU hW => Pw.at hK hP hD hZ hS hA hU hW⟩ rfl rfl hl.1 rfl (lv_room (Nat.le_of_ble_eq_true rfl)) dX0_setFrequency_17 ⟨(Nat.le_of_ble_eq_true rfl), (Nat.le_of_ble_eq_true rfl)⟩) hP hD hS hA ?_
      clear hP hD hS
      intro u_12 _ H locs hP hD hS
      replace hf := hf u_12
      generalize y_10 u_12 = ζ_11 at hf hP hD ⊢
      clear h_9
      replace hf := hf (fun _ => 0)
      refine lv_aload_n hx hb dX0_setFrequency_20 rfl (lv_at hl 0 rfl) ?_
      refine g_get hx hb hts S.2.2.2.1 hK hP in_X0 0 rfl rfl 8 (by decide) q293 (fun _ h9 => h9) (v := .ref (b 13)) rfl dX0_setFrequency_21 ?_
      refine g_getN hx hb hts S.2.2.2.1 hK hP in_X8 13 rfl rfl 0 (by decide) q810 (fun _ h9 => h9) (v := .int (ζ_11.1.1 60)) rfl dX0_setFrequency_24 ?_
      refine lv_topi (fun v_13 e_ => ?_)
      replace hf := nm_some hf v_13 e_
      clear e_
      refine lv_istore_n (lv' := [(2, .int v_13), (0, .ref (b 0)), (1, .int p0)]) hx hb dX0_setFrequency_27 rfl hl (by decide) rfl (fun ls hl => ?_)
      refine lv_aload_n hx hb dX0_setFrequency_28 rfl (lv_at hl 1 rfl) ?_
      refine g_get hx hb hts S.2.2.2.1 hK hP in_X0 0 rfl rfl 8 (by decide) q293 (fun _ h9 => h9) (v := .ref (b 13)) rfl dX0_setFrequency_29 ?_
      refine lv_iload_n hx hb dX0_setFrequency_32 rfl (lv_at hl 2 rfl) ?_
      obtain ⟨ζ_15, h_14, hf⟩ := b1_some hf
      obtain ⟨ζ_16, e_ζ_16⟩ : ∃ x, x = (xmrg ζ_11.1 ζ_15, ζ_11.2) := ⟨_, rfl⟩
      refine run_v (w := XW d z b ζ_11.1) (tl := ζ_11.2) (wr := [(b 17, .inr (18, [.int (ζ_11.1.1 70), .ref (b 18), .int (ζ_11.1.1 72)])), (b 18, .inl (d 4, 16, .inr (.inr (.inr (.inr (ζ_11.1.2.2.2.2 18)))))), (b 16, .inr (17, [.ref (b 19), .int (ζ_11.1.1 81), .int (ζ_11.1.1 82)])), (b 19, .inl (d 4, 17, .inr (.inr (.inr (.inr (ζ_11.1.2.2.2.2 19))))))]) (w' := XW d z b ζ_16.1) (va_runV (As := [.int p0]) (rest := []) S (tX8_setFrequency l D d z b (ζ_11.1.2.2.2.2 6 0) K p0 ζ_11.1 ζ_15 h_14 _) (cwV 1 hts (lw_V q1023 q1024 q1025 q116 q1026) rfl rfl rfl (by decide +kernel) ⟨(Nat.le_of_ble_eq_true rfl), (Nat.le_of_ble_eq_true rfl)⟩) ⟨Pw.blind, (va_recv hK.1 hP (ci := 8) (q0 := 13) rfl rfl), fun U hU hW => Pw.cut (w := XW d z b ζ_11.1) (tl := ζ_11.2) hK hP hD hZ hS hA [0, 1, 2, 3, 4, 5, 6, 7, 8, 9, 10, 11, 12, 13, 14, 15] rfl rfl hU hW⟩ rfl rfl hl.1 rfl (lv_room (Nat.le_of_ble_eq_true rfl)) dX0_setFrequency_33 ⟨(Nat.le_of_ble_eq_true rfl), (Nat.le_of_ble_eq_true rfl)⟩) hP hD hS hA [0, 1, 2, 3, 4, 5, 6, 7, 8, 9, 10, 11, 12, 13, 14, 15] [16, 17, 18, 19] [4, 5, 6, 7, 8, 9, 10, 11, 12, 13, 14, 15, 16, 17, 18, 19, 0, 1, 2, 3] rfl rfl rfl rfl (by decide) rfl (by subst e_ζ_16; rfl) ?_
      clear hP hD hS
      intro H locs hP hD hS
      rw [show ζ_11.2 = ζ_16.2 from by subst e_ζ_16; rfl] at hP hD
      clear h_14
      replace hf := nm_some hf ζ_16 e_ζ_16
      clear e_ζ_16
      refine lv_iload_n hx hb dX0_setFrequency_36 rfl (lv_at hl 0 rfl) ?_
      refine W.widen (k := 5) (n := 227) (Nat.le_of_ble_eq_true rfl) (Nat.le_of_ble_eq_true rfl) ?_
      exact hret _ _ _ _ _ _ _ hf dX0_setFrequency_37 hP hD hS
    · replace hf := itU_f hf (bi_e0 c_8)
      clear c_8
      replace hf := hf (fun _ => 0)
      refine lv_iconst (v := -1) hx hb dX0_setFrequency_14 (by decide) ?_
      refine W.widen (k := 5) (n := 227) (Nat.le_of_ble_eq_true rfl) (Nat.le_of_ble_eq_true rfl) ?_
      exact hret _ _ _ _ _ _ _ hf dX0_setFrequency_15 hP hD hS
noncomputable def fX0_change (K : Nat) (d : Nat → ClassId) (p0 : Int32 × Int32 × Int32) (u : UU) (μ : XT) : Option XT :=
  b1u u (fun u => fX0_remember K d u μ) fun ζ_3 u =>
  b2 (fX2_code K (p0.1, p0.2.1, p0.2.2)) fun r_6 ζ_7 =>
  b1 (fX8_setSettings K r_6 ζ_3.1) fun ζ_9 =>
  nm ((xmrg ζ_3.1 ζ_9, ζ_3.2)) fun ζ_10 =>
  some ζ_10
set_option maxHeartbeats 4000000 in
set_option maxRecDepth 100000 in
theorem tX0_change (l : Launch) (D : va_G) (d : Nat → ClassId) (z : ZT) (b : Nat → Nat) (K : Nat) (o0 : Nat) (p0 : Int32 × Int32 × Int32) (μ : XT) (y : UU → XT) (hf : ∀ u, fX0_change K d p0 u μ = some (y u)) : CVS l yX0_change (ws_ yX0_change cX0_change 2 (Option.none : Option Jvm.ClassFile.FieldType)) (rmc 6 5 227 115) D d z [.ref (b 0), .ref o0] ((XW d z b μ.1 ++ [(o0, .inr (3, [.int p0.1, .int p0.2.1, .int p0.2.2]))]) ++ μ.2) (fun u : UU => XW d z b (y u).1 ++ (y u).2) (fun _ => True) := by
  refine CVS.of (rt := .int) (own := RX0) rfl (by decide) (Nat.le_of_ble_eq_true rfl) ?_
  intro p e s m args below meth c A Q ls S hin hK hP hD hZ hS hA hl hret0
  have hret : ∀ (U0 : UU) (μx : XT) (H : Heap) (locs : List Loc) (pc : Nat) (ls' : Array Slot), some μx = some (y U0) → decode cX0_change pc = .ok (.return_, 1) → va_P D CL (XW d z b μx.1 ++ μx.2) H → va_D A (XW d z b μx.1 ++ μx.2) → va_S A s.heap H locs → W p l e (rmc 6 5 227 115) s m args below meth c H locs 5 227 Q (F0 m pc ls' []) := by
    intro U0 μx H locs pc ls' h9 hdg hP hD hS
    have h8 := hret0 U0 trivial H locs pc ls' hdg
    rw [← Option.some.inj h9] at h8
    exact h8 hP hD hS
  have hx := S.1
  have hb := S.2.1
  have hts := S.2.2.2.2
  have hl : lv_has ls 2 [(0, .ref (b 0)), (1, .ref o0)] := hl
  unfold fX0_change at hf
  refine lv_aload_n hx hb dX0_change_0 rfl (lv_at hl 0 rfl) ?_
  obtain ⟨y_2, h_1, hf⟩ := b1u_some hf
  have hPc := wP_subT (w := (XW d z b μ.1 ++ [(o0, .inr (3, [.int p0.1, .int p0.2.1, .int p0.2.2]))])) (w1 := XW d z b μ.1 ++ [(o0, .inr (3, [.int p0.1, .int p0.2.1, .int p0.2.2]))]) hP [0, 1, 2, 3, 4, 5, 6, 7, 8, 9, 10, 11, 12, 13, 14, 15, 16, 17, 18, 19, 20] rfl
  have hDc := wD_subT (w := (XW d z b μ.1 ++ [(o0, .inr (3, [.int p0.1, .int p0.2.1, .int p0.2.2]))])) (w1 := XW d z b μ.1 ++ [(o0, .inr (3, [.int p0.1, .int p0.2.1, .int p0.2.2]))]) hD [0, 1, 2, 3, 4, 5, 6, 7, 8, 9, 10, 11, 12, 13, 14, 15, 16, 17, 18, 19, 20] rfl rfl
  refine runX_vS (wA := XW d z b μ.1) (wB := [(o0, .inr (3, [.int p0.1, .int p0.2.1, .int p0.2.2]))]) (tl := μ.2) (wA' := fun u => XW d z b (y_2 u).1) (tl' := fun u => (y_2 u).2) (va_runV (As := []) (rest := []) S (tX0_remember l D d z b K μ y_2 h_1 _) (cwV 0 hts (lw_V q899 q901 qs20 q94 q902) rfl rfl rfl (by decide +kernel) ⟨(Nat.le_of_ble_eq_true rfl), (Nat.le_of_ble_eq_true rfl)⟩) ⟨Pw.blind, (va_recv hK.1 hP (ci := 1) (q0 := 0) rfl rfl), fun U hU hW => Pw.atX (wB := [(o0, .inr (3, [.int p0.1, .int p0.2.1, .int p0.2.2]))]) hK hPc hDc hZ hS hA hU hW⟩ rfl rfl hl.1 rfl (lv_room (Nat.le_of_ble_eq_true rfl)) dX0_change_1 ⟨(Nat.le_of_ble_eq_true rfl), (Nat.le_of_ble_eq_true rfl)⟩) hPc hDc hS hA ?_
  clear hP hD hS hPc hDc
  intro u_4 _ H locs hP hD hS
  replace hf := hf u_4
  generalize y_2 u_4 = ζ_3 at hf hP hD ⊢
  clear h_1
  replace hf := hf (fun _ => 0)
  refine lv_aload_n hx hb dX0_change_4 rfl (lv_at hl 0 rfl) ?_
  refine g_get hx hb hts S.2.2.2.1 hK hP in_X0 0 rfl rfl 8 (by decide) q293 (fun _ h9 => h9) (v := .ref (b 13)) rfl dX0_change_5 ?_
  refine lv_aload_n hx hb dX0_change_8 rfl (lv_at hl 1 rfl) ?_
  obtain ⟨r_6, ζ_7, h_5, hf⟩ := b2_some hf
  refine run_i (w := (XW d z b ζ_3.1 ++ [(o0, .inr (3, [.int p0.1, .int p0.2.1, .int p0.2.2]))])) (tl := ζ_3.2) (wr := [(b 0, .inr (1, [.ref (b 1), .int (ζ_3.1.1 1), .int (ζ_3.1.1 2), .ref (b 2), .ref (b 3), .ref (b 4), va_rf (ζ_3.1.2.2.2.2 6 0), .ref (b 7), .ref (b 13), .ref (b 16), .int (ζ_3.1.1 10)])), (b 1, .inl (d 2, 500, .inl (ζ_3.1.2.2.1 1))), (b 2, .inl (d 5, 2, .inr (.inr (.inr (.inr (fun j => some (z.2.2 j))))))), (b 3, .inl (d 6, 5, .inr (.inr (.inr (.inr (fun j => some (z.2.2 (2 + j)))))))), (b 4, .inr (4, [.int (ζ_3.1.1 20), .long (ζ_3.1.2.1 21), .long (ζ_3.1.2.1 22), .long (ζ_3.1.2.1 23), .ref (b 5), .ref (b 6), .ref (b 0)])), (b 5, .inr (2, [.long (ζ_3.1.2.1 30), .long (ζ_3.1.2.1 31)])), (b 6, .inr (2, [.long (ζ_3.1.2.1 32), .long (ζ_3.1.2.1 33)])), (b 7, .inr (6, [.int (ζ_3.1.1 40), .int (ζ_3.1.1 41), .int (ζ_3.1.1 42), .int (ζ_3.1.1 43), .int (ζ_3.1.1 44), .int (ζ_3.1.1 45), .ref (b 8), .ref (b 9), .ref (b 10), .int (ζ_3.1.1 49), .ref (b 11), .ref (b 12), .int (ζ_3.1.1 52)])), (b 8, .inl (d 0, 16, .inl (ζ_3.1.2.2.1 46))), (b 9, .inl (d 1, 16, .inr (.inl (ζ_3.1.2.2.2.1 47)))), (b 10, .inl (d 1, 16, .inr (.inl (ζ_3.1.2.2.2.1 48)))), (b 11, .inl (d 0, 8, .inl (ζ_3.1.2.2.1 50))), (b 12, .inl (d 0, 8, .inl (ζ_3.1.2.2.1 51))), (b 13, .inr (8, [.int (ζ_3.1.1 60), .int (ζ_3.1.1 61), .int (ζ_3.1.1 62), .int (ζ_3.1.1 63), .ref (b 14), .ref (b 15), .int (ζ_3.1.1 66), .ref (b 17)])), (b 14, .inl (d 0, 100, .inl (ζ_3.1.2.2.1 64))), (b 15, .inl (d 3, 100, .inl (ζ_3.1.2.2.1 65))), (b 17, .inr (18, [.int (ζ_3.1.1 70), .ref (b 18), .int (ζ_3.1.1 72)])), (b 18, .inl (d 4, 16, .inr (.inr (.inr (.inr (ζ_3.1.2.2.2.2 18)))))), (b 16, .inr (17, [.ref (b 19), .int (ζ_3.1.1 81), .int (ζ_3.1.1 82)])), (b 19, .inl (d 4, 17, .inr (.inr (.inr (.inr (ζ_3.1.2.2.2.2 19))))))]) (w' := (XW d z b ζ_3.1 ++ [(o0, .inr (3, [.int ζ_7.1, .int ζ_7.2.1, .int ζ_7.2.2]))])) (va_runV (As := []) (rest := [.ref (b 13)]) S (tX2_code l D d z o0 K (p0.1, p0.2.1, p0.2.2) r_6 ζ_7 h_5 _) (cwV 0 hts (lw_V q1048 q1049 q1050 q97 q1051) rfl rfl rfl (by decide +kernel) ⟨(Nat.le_of_ble_eq_true rfl), (Nat.le_of_ble_eq_true rfl)⟩) ⟨Pw.blind, (va_recv hK.1 hP (ci := 3) (q0 := 20) rfl rfl), fun U hU hW => Pw.cut (w := (XW d z b ζ_3.1 ++ [(o0, .inr (3, [.int p0.1, .int p0.2.1, .int p0.2.2]))])) (tl := ζ_3.2) hK hP hD hZ hS hA [20] rfl rfl hU hW⟩ rfl rfl hl.1 rfl (lv_room (Nat.le_of_ble_eq_true rfl)) dX0_change_9 ⟨(Nat.le_of_ble_eq_true rfl), (Nat.le_of_ble_eq_true rfl)⟩) hP hD hS hA [20] [0, 1, 2, 3, 4, 5, 6, 7, 8, 9, 10, 11, 12, 13, 14, 15, 16, 17, 18, 19] [0, 1, 2, 3, 4, 5, 6, 7, 8, 9, 10, 11, 12, 13, 14, 15, 16, 17, 18, 19, 20] rfl rfl rfl rfl (by decide) rfl rfl ?_
  clear hP hD hS
  intro H locs hP hD hS
  clear h_5
  obtain ⟨ζ_9, h_8, hf⟩ := b1_some hf
  obtain ⟨ζ_10, e_ζ_10⟩ : ∃ x, x = (xmrg ζ_3.1 ζ_9, ζ_3.2) := ⟨_, rfl⟩
  refine run_v (w := (XW d z b ζ_3.1 ++ [(o0, .inr (3, [.int ζ_7.1, .int ζ_7.2.1, .int ζ_7.2.2]))])) (tl := ζ_3.2) (wr := [(b 17, .inr (18, [.int (ζ_3.1.1 70), .ref (b 18), .int (ζ_3.1.1 72)])), (b 18, .inl (d 4, 16, .inr (.inr (.inr (.inr (ζ_3.1.2.2.2.2 18)))))), (b 16, .inr (17, [.ref (b 19), .int (ζ_3.1.1 81), .int (ζ_3.1.1 82)])), (b 19, .inl (d 4, 17, .inr (.inr (.inr (.inr (ζ_3.1.2.2.2.2 19)))))), (o0, .inr (3, [.int ζ_7.1, .int ζ_7.2.1, .int ζ_7.2.2]))]) (w' := (XW d z b ζ_10.1 ++ [(o0, .inr (3, [.int ζ_7.1, .int ζ_7.2.1, .int ζ_7.2.2]))])) (va_runV (As := [.int r_6]) (rest := []) S (tX8_setSettings l D d z b (ζ_3.1.2.2.2.2 6 0) K r_6 ζ_3.1 ζ_9 h_8 _) (cwV 1 hts (lw_V q1052 q1053 q1054 q116 q1055) rfl rfl rfl (by decide +kernel) ⟨(Nat.le_of_ble_eq_true rfl), (Nat.le_of_ble_eq_true rfl)⟩) ⟨Pw.blind, (va_recv hK.1 hP (ci := 8) (q0 := 13) rfl rfl), fun U hU hW => Pw.cut (w := (XW d z b ζ_3.1 ++ [(o0, .inr (3, [.int ζ_7.1, .int ζ_7.2.1, .int ζ_7.2.2]))])) (tl := ζ_3.2) hK hP hD hZ hS hA [0, 1, 2, 3, 4, 5, 6, 7, 8, 9, 10, 11, 12, 13, 14, 15] rfl rfl hU hW⟩ rfl rfl hl.1 rfl (lv_room (Nat.le_of_ble_eq_true rfl)) dX0_change_12 ⟨(Nat.le_of_ble_eq_true rfl), (Nat.le_of_ble_eq_true rfl)⟩) hP hD hS hA [0, 1, 2, 3, 4, 5, 6, 7, 8, 9, 10, 11, 12, 13, 14, 15] [16, 17, 18, 19, 20] [5, 6, 7, 8, 9, 10, 11, 12, 13, 14, 15, 16, 17, 18, 19, 20, 0, 1, 2, 3, 4] rfl rfl rfl rfl (by decide) rfl (by subst e_ζ_10; rfl) ?_
  clear hP hD hS
  intro H locs hP hD hS
  rw [show ζ_3.2 = ζ_10.2 from by subst e_ζ_10; rfl] at hP hD
  clear h_8
  replace hf := nm_some hf ζ_10 e_ζ_10
  clear e_ζ_10
  refine W.widen (k := 5) (n := 227) (Nat.le_of_ble_eq_true rfl) (Nat.le_of_ble_eq_true rfl) ?_
  replace hP := wP_subT (w := (XW d z b ζ_10.1 ++ [(o0, .inr (3, [.int ζ_7.1, .int ζ_7.2.1, .int ζ_7.2.2]))])) (w1 := XW d z b ζ_10.1) hP [0, 1, 2, 3, 4, 5, 6, 7, 8, 9, 10, 11, 12, 13, 14, 15, 16, 17, 18, 19] rfl
  replace hD := wD_subT (w := (XW d z b ζ_10.1 ++ [(o0, .inr (3, [.int ζ_7.1, .int ζ_7.2.1, .int ζ_7.2.2]))])) (w1 := XW d z b ζ_10.1) hD [0, 1, 2, 3, 4, 5, 6, 7, 8, 9, 10, 11, 12, 13, 14, 15, 16, 17, 18, 19] rfl rfl
  exact hret _ _ _ _ _ _ hf dX0_change_15 hP hD hS
noncomputable def fX0_setSide (K : Nat) (d : Nat → ClassId) (p0 : Int32) (u : UU) (μ : XT) : Option (Int32 × XT) :=
  b2 (fX0_isReady K μ.1) fun r_2 ζ_3 =>
  nm ((xmrg μ.1 ζ_3, μ.2)) fun ζ_4 =>
  if r_2 = true then
    b1 (fX0_isIn K p0 (0 : Int32) (1 : Int32)) fun r_6 =>
    if r_6 = true then
      b2 (fX0_present K ζ_4.1) fun r_10 ζ_11 =>
      nm ((xmrg ζ_4.1 ζ_11, ζ_4.2)) fun ζ_12 =>
      b1 (fX2_init K p0 r_10.2.1 r_10.2.2 ((0 : Int32), (0 : Int32), (0 : Int32))) fun ζ_16 =>
      b1u u (fun u => fX0_change K d (ζ_16.1, ζ_16.2.1, ζ_16.2.2) u ζ_12) fun ζ_19 u =>
      some (r_10.1, ζ_19)
    else
      some ((-1 : Int32), ζ_4)
  else
    some ((-1 : Int32), ζ_4)
set_option maxHeartbeats 4000000 in
set_option maxRecDepth 100000 in
theorem tX0_setSide (l : Launch) (D : va_G) (d : Nat → ClassId) (z : ZT) (b : Nat → Nat) (K : Nat) (p0 : Int32) (μ : XT) (y : UU → (Int32 × XT)) (hf : ∀ u, fX0_setSide K d p0 u μ = some (y u)) : CIS l yX0_setSide (ws_ yX0_setSide cX0_setSide 3 (Option.some Jvm.ClassFile.FieldType.int)) (rmc 7 7 233 136) D d z [.ref (b 0), .int p0] (XW d z b μ.1 ++ μ.2) (fun u : UU => (y u).1) (fun u : UU => XW d z b (y u).2.1 ++ (y u).2.2) (fun _ => True) := by
  refine CIS.of (own := RX0) rfl (by decide) (Nat.le_of_ble_eq_true rfl) (fun _ => rfl) ?_
  intro p e s m args below meth c A Q ls S hin hK hP hD hZ hS hA hl hret0
  have hret : ∀ (U0 : UU) (x : Int32) (μx : XT) (H : Heap) (locs : List Loc) (pc : Nat) (ls' : Array Slot), some (x, μx) = some (y U0) → decode cX0_setSide pc = .ok (.ireturn, 1) → va_P D CL (XW d z b μx.1 ++ μx.2) H → va_D A (XW d z b μx.1 ++ μx.2) → va_S A s.heap H locs → W p l e (rmc 7 7 233 136) s m args below meth c H locs 7 233 Q (F0 m pc ls' [.int x]) := by
    intro U0 x μx H locs pc ls' h9 hdg hP hD hS
    have h8 := hret0 U0 trivial H locs pc ls' hdg
    rw [← Option.some.inj h9] at h8
    exact h8 hP hD hS
  have hx := S.1
  have hb := S.2.1
  have hts := S.2.2.2.2
  have hl : lv_has ls 3 [(0, .ref (b 0)), (1, .int p0)] := hl
  unfold fX0_setSide at hf
  refine lv_aload_n hx hb dX0_setSide_0 rfl (lv_at hl 0 rfl) ?_
  obtain ⟨r_2, ζ_3, h_1, hf⟩ := b2U hf
  obtain ⟨ζ_4, e_ζ_4⟩ : ∃ x, x = (xmrg μ.1 ζ_3, μ.2) := ⟨_, rfl⟩
  refine run_i (w := XW d z b μ.1) (tl := μ.2) (wr := [(b 17, .inr (18, [.int (μ.1.1 70), .ref (b 18), .int (μ.1.1 72)])), (b 18, .inl (d 4, 16, .inr (.inr (.inr (.inr (μ.1.2.2.2.2 18)))))), (b 16, .inr (17, [.ref (b 19), .int (μ.1.1 81), .int (μ.1.1 82)])), (b 19, .inl (d 4, 17, .inr (.inr (.inr (.inr (μ.1.2.2.2.2 19))))))]) (w' := XW d z b ζ_4.1) (va_runV (As := []) (rest := []) S (tX0_isReady l D d z b (μ.1.2.2.2.2 6 0) K μ.1 r_2 ζ_3 h_1 _) (cwV 0 hts (lw_V q857 q859 qs18 q94 q860) rfl rfl rfl (by decide +kernel) ⟨(Nat.le_of_ble_eq_true rfl), (Nat.le_of_ble_eq_true rfl)⟩) ⟨Pw.blind, (va_recv hK.1 hP (ci := 1) (q0 := 0) rfl rfl), fun U hU hW => Pw.cut (w := XW d z b μ.1) (tl := μ.2) hK hP hD hZ hS hA [0, 1, 2, 3, 4, 5, 6, 7, 8, 9, 10, 11, 12, 13, 14, 15] rfl rfl hU hW⟩ rfl rfl hl.1 rfl (lv_room (Nat.le_of_ble_eq_true rfl)) dX0_setSide_1 ⟨(Nat.le_of_ble_eq_true rfl), (Nat.le_of_ble_eq_true rfl)⟩) hP hD hS hA [0, 1, 2, 3, 4, 5, 6, 7, 8, 9, 10, 11, 12, 13, 14, 15] [16, 17, 18, 19] [4, 5, 6, 7, 8, 9, 10, 11, 12, 13, 14, 15, 16, 17, 18, 19, 0, 1, 2, 3] rfl rfl rfl rfl (by decide) rfl (by subst e_ζ_4; rfl) ?_
  clear hP hD hS
  intro H locs hP hD hS
  rw [show μ.2 = ζ_4.2 from by subst e_ζ_4; rfl] at hP hD
  clear h_1
  replace hf := nmU hf ζ_4 e_ζ_4
  clear e_ζ_4
  refine lv_if_eq (tgt := 16) hx hb dX0_setSide_4 (by decide) (fun c_5 => ?_) (fun c_5 => ?_)
  · replace hf := itU_f hf (bi_e0 c_5)
    clear c_5
    replace hf := hf (fun _ => 0)
    refine lv_iconst (v := -1) hx hb dX0_setSide_16 (by decide) ?_
    refine W.widen (k := 7) (n := 233) (Nat.le_of_ble_eq_true rfl) (Nat.le_of_ble_eq_true rfl) ?_
    exact hret _ _ _ _ _ _ _ hf dX0_setSide_17 hP hD hS
  · replace hf := itU_t hf (bi_n0 c_5)
    clear c_5
    refine lv_iload_n hx hb dX0_setSide_7 rfl (lv_at hl 1 rfl) ?_
    refine lv_iconst (v := 0) hx hb dX0_setSide_8 (by decide) ?_
    refine lv_iconst (v := 1) hx hb dX0_setSide_9 (by decide) ?_
    obtain ⟨r_6, h_7, hf⟩ := b1U hf
    refine si_call S (tX0_isIn l K p0 (0 : Int32) (1 : Int32) _ h_7) (va_cwS 3 hts (lw_S q331 q332 q94 q333) rfl rfl rfl (by decide +kernel) ⟨(Nat.le_of_ble_eq_true rfl), (Nat.le_of_ble_eq_true rfl)⟩) rfl hl.1 rfl (Nat.le_of_ble_eq_true rfl) ⟨(Nat.le_of_ble_eq_true rfl), (Nat.le_of_ble_eq_true rfl)⟩ dX0_setSide_10 ?_
    clear h_7
    refine lv_if_ne (tgt := 18) hx hb dX0_setSide_13 (by decide) (fun c_8 => ?_) (fun c_8 => ?_)
    · replace hf := itU_t hf (bi_n0 c_8)
      clear c_8
      refine lv_aload_n hx hb dX0_setSide_18 rfl (lv_at hl 0 rfl) ?_
      obtain ⟨r_10, ζ_11, h_9, hf⟩ := b2U hf
      obtain ⟨ζ_12, e_ζ_12⟩ : ∃ x, x = (xmrg ζ_4.1 ζ_11, ζ_4.2) := ⟨_, rfl⟩
      refine run_rS (w := XW d z b ζ_4.1) (tl := ζ_4.2) (wr := [(b 17, .inr (18, [.int (ζ_4.1.1 70), .ref (b 18), .int (ζ_4.1.1 72)])), (b 18, .inl (d 4, 16, .inr (.inr (.inr (.inr (ζ_4.1.2.2.2.2 18)))))), (b 16, .inr (17, [.ref (b 19), .int (ζ_4.1.1 81), .int (ζ_4.1.1 82)])), (b 19, .inl (d 4, 17, .inr (.inr (.inr (.inr (ζ_4.1.2.2.2.2 19))))))]) (w' := fun u => (XW d z b ζ_12.1 ++ [(u, .inr (3, [.int r_10.1, .int r_10.2.1, .int r_10.2.2]))])) (va_runV (As := []) (rest := []) S (tX0_present l D d z b (ζ_4.1.2.2.2.2 6 0) K ζ_4.1 r_10 ζ_11 h_9 _) (cwV 0 hts (lw_V q1035 q1037 qs27 q94 q1038) rfl rfl rfl (by decide +kernel) ⟨(Nat.le_of_ble_eq_true rfl), (Nat.le_of_ble_eq_true rfl)⟩) ⟨Pw.blind, (va_recv hK.1 hP (ci := 1) (q0 := 0) rfl rfl), fun U hU hW => Pw.cut (w := XW d z b ζ_4.1) (tl := ζ_4.2) hK hP hD hZ hS hA [0, 1, 2, 3, 4, 5, 6, 7, 8, 9, 10, 11, 12, 13, 14, 15] rfl rfl hU hW⟩ rfl rfl hl.1 rfl (lv_room (Nat.le_of_ble_eq_true rfl)) dX0_setSide_19 ⟨(Nat.le_of_ble_eq_true rfl), (Nat.le_of_ble_eq_true rfl)⟩) hP hD hS hA [0, 1, 2, 3, 4, 5, 6, 7, 8, 9, 10, 11, 12, 13, 14, 15] [16, 17, 18, 19] [4, 5, 6, 7, 8, 9, 10, 11, 12, 13, 14, 15, 16, 17, 18, 19, 0, 1, 2, 3, 20] rfl rfl rfl rfl (by decide) rfl (fun _ => by subst e_ζ_12; rfl) ?_
      clear hP hD hS
      intro q_13 _ H locs hP hD hS
      rw [show ζ_4.2 = ζ_12.2 from by subst e_ζ_12; rfl] at hP hD
      clear h_9
      replace hf := nmU hf ζ_12 e_ζ_12
      clear e_ζ_12
      refine lv_astore_n (lv' := [(2, .ref q_13), (0, .ref (b 0)), (1, .int p0)]) hx hb dX0_setSide_22 rfl hl (by decide) rfl (fun ls hl => ?_)
      refine lv_aload_n hx hb dX0_setSide_23 rfl (lv_at hl 1 rfl) ?_
      refine g_newT (w := (XW d z b ζ_12.1 ++ [(q_13, .inr (3, [.int r_10.1, .int r_10.2.1, .int r_10.2.2]))])) (tl := ζ_12.2) hx hb hts S.2.2.2.1 hK hP hD hS hA (ci := 3) in_X2 tyX2 tyX2_ok q178 q179 q97 rfl (fs := [.int (0 : Int32), .int (0 : Int32), .int (0 : Int32)]) (fun j hj => by rcases (show j = 0 ∨ j = 1 ∨ j = 2 by omega) with rfl | rfl | rfl <;> rfl) (Nat.le_of_ble_eq_true rfl) (Nat.le_of_ble_eq_true rfl) (w1 := fun q => (XW d z b ζ_12.1 ++ [(q_13, .inr (3, [.int r_10.1, .int r_10.2.1, .int r_10.2.2])), (q, .inr (3, [.int (0 : Int32), .int (0 : Int32), .int (0 : Int32)]))])) (fun _ => rfl) dX0_setSide_24 ?_
      clear hP hD hS
      intro q_14 H hP hD hS
      refine lv_dup hx hb dX0_setSide_27 rfl ?_
      refine lv_iload_n hx hb dX0_setSide_28 rfl (lv_at hl 2 rfl) ?_
      refine lv_aload_n hx hb dX0_setSide_29 rfl (lv_at hl 0 rfl) ?_
      refine g_getN hx hb hts S.2.2.2.1 hK hP in_X2 20 rfl rfl 1 (by decide) q188 (fun _ h9 => h9) (v := .int r_10.2.1) rfl dX0_setSide_30 ?_
      refine lv_aload_n hx hb dX0_setSide_33 rfl (lv_at hl 0 rfl) ?_
      refine g_getN hx hb hts S.2.2.2.1 hK hP in_X2 20 rfl rfl 2 (by decide) q191 (fun _ h9 => h9) (v := .int r_10.2.2) rfl dX0_setSide_34 ?_
      obtain ⟨ζ_16, h_15, hf⟩ := b1U hf
      refine run_v (w := (XW d z b ζ_12.1 ++ [(q_13, .inr (3, [.int r_10.1, .int r_10.2.1, .int r_10.2.2])), (q_14, .inr (3, [.int (0 : Int32), .int (0 : Int32), .int (0 : Int32)]))])) (tl := ζ_12.2) (wr := [(b 0, .inr (1, [.ref (b 1), .int (ζ_12.1.1 1), .int (ζ_12.1.1 2), .ref (b 2), .ref (b 3), .ref (b 4), va_rf (ζ_12.1.2.2.2.2 6 0), .ref (b 7), .ref (b 13), .ref (b 16), .int (ζ_12.1.1 10)])), (b 1, .inl (d 2, 500, .inl (ζ_12.1.2.2.1 1))), (b 2, .inl (d 5, 2, .inr (.inr (.inr (.inr (fun j => some (z.2.2 j))))))), (b 3, .inl (d 6, 5, .inr (.inr (.inr (.inr (fun j => some (z.2.2 (2 + j)))))))), (b 4, .inr (4, [.int (ζ_12.1.1 20), .long (ζ_12.1.2.1 21), .long (ζ_12.1.2.1 22), .long (ζ_12.1.2.1 23), .ref (b 5), .ref (b 6), .ref (b 0)])), (b 5, .inr (2, [.long (ζ_12.1.2.1 30), .long (ζ_12.1.2.1 31)])), (b 6, .inr (2, [.long (ζ_12.1.2.1 32), .long (ζ_12.1.2.1 33)])), (b 7, .inr (6, [.int (ζ_12.1.1 40), .int (ζ_12.1.1 41), .int (ζ_12.1.1 42), .int (ζ_12.1.1 43), .int (ζ_12.1.1 44), .int (ζ_12.1.1 45), .ref (b 8), .ref (b 9), .ref (b 10), .int (ζ_12.1.1 49), .ref (b 11), .ref (b 12), .int (ζ_12.1.1 52)])), (b 8, .inl (d 0, 16, .inl (ζ_12.1.2.2.1 46))), (b 9, .inl (d 1, 16, .inr (.inl (ζ_12.1.2.2.2.1 47)))), (b 10, .inl (d 1, 16, .inr (.inl (ζ_12.1.2.2.2.1 48)))), (b 11, .inl (d 0, 8, .inl (ζ_12.1.2.2.1 50))), (b 12, .inl (d 0, 8, .inl (ζ_12.1.2.2.1 51))), (b 13, .inr (8, [.int (ζ_12.1.1 60), .int (ζ_12.1.1 61), .int (ζ_12.1.1 62), .int (ζ_12.1.1 63), .ref (b 14), .ref (b 15), .int (ζ_12.1.1 66), .ref (b 17)])), (b 14, .inl (d 0, 100, .inl (ζ_12.1.2.2.1 64))), (b 15, .inl (d 3, 100, .inl (ζ_12.1.2.2.1 65))), (b 17, .inr (18, [.int (ζ_12.1.1 70), .ref (b 18), .int (ζ_12.1.1 72)])), (b 18, .inl (d 4, 16, .inr (.inr (.inr (.inr (ζ_12.1.2.2.2.2 18)))))), (b 16, .inr (17, [.ref (b 19), .int (ζ_12.1.1 81), .int (ζ_12.1.1 82)])), (b 19, .inl (d 4, 17, .inr (.inr (.inr (.inr (ζ_12.1.2.2.2.2 19)))))), (q_13, .inr (3, [.int r_10.1, .int r_10.2.1, .int r_10.2.2]))]) (w' := (XW d z b ζ_12.1 ++ [(q_13, .inr (3, [.int r_10.1, .int r_10.2.1, .int r_10.2.2])), (q_14, .inr (3, [.int ζ_16.1, .int ζ_16.2.1, .int ζ_16.2.2]))])) (va_runI (As := [.int p0, .int r_10.2.1, .int r_10.2.2]) (rest := [.ref q_14, .ref (b 0)]) S (tX2_init l D d z q_14 K p0 r_10.2.1 r_10.2.2 ((0 : Int32), (0 : Int32), (0 : Int32)) ζ_16 h_15 _) (cwI 3 hts (lw_meth q182) rfl rfl rfl (hts _ q97) (hts _ q180) (hts _ q181) rfl (by decide +kernel) ⟨(Nat.le_of_ble_eq_true rfl), (Nat.le_of_ble_eq_true rfl)⟩) ⟨Pw.blind, fun U hU hW => Pw.cut (w := (XW d z b ζ_12.1 ++ [(q_13, .inr (3, [.int r_10.1, .int r_10.2.1, .int r_10.2.2])), (q_14, .inr (3, [.int (0 : Int32), .int (0 : Int32), .int (0 : Int32)]))])) (tl := ζ_12.2) hK hP hD hZ hS hA [21] rfl rfl hU hW⟩ rfl rfl hl.1 rfl (lv_room (Nat.le_of_ble_eq_true rfl)) dX0_setSide_37 ⟨(Nat.le_of_ble_eq_true rfl), (Nat.le_of_ble_eq_true rfl)⟩) hP hD hS hA [21] [0, 1, 2, 3, 4, 5, 6, 7, 8, 9, 10, 11, 12, 13, 14, 15, 16, 17, 18, 19, 20] [0, 1, 2, 3, 4, 5, 6, 7, 8, 9, 10, 11, 12, 13, 14, 15, 16, 17, 18, 19, 20, 21] rfl rfl rfl rfl (by decide) rfl rfl ?_
      clear hP hD hS
      intro H locs hP hD hS
      clear h_15
      obtain ⟨y_18, h_17, hf⟩ := b1u_some hf
      have hPc := wP_subT (w := (XW d z b ζ_12.1 ++ [(q_13, .inr (3, [.int r_10.1, .int r_10.2.1, .int r_10.2.2])), (q_14, .inr (3, [.int ζ_16.1, .int ζ_16.2.1, .int ζ_16.2.2]))])) (w1 := (XW d z b ζ_12.1 ++ [(q_14, .inr (3, [.int ζ_16.1, .int ζ_16.2.1, .int ζ_16.2.2]))]) ++ [(q_13, .inr (3, [.int r_10.1, .int r_10.2.1, .int r_10.2.2]))]) hP [0, 1, 2, 3, 4, 5, 6, 7, 8, 9, 10, 11, 12, 13, 14, 15, 16, 17, 18, 19, 21, 20] rfl
      have hDc := wD_subT (w := (XW d z b ζ_12.1 ++ [(q_13, .inr (3, [.int r_10.1, .int r_10.2.1, .int r_10.2.2])), (q_14, .inr (3, [.int ζ_16.1, .int ζ_16.2.1, .int ζ_16.2.2]))])) (w1 := (XW d z b ζ_12.1 ++ [(q_14, .inr (3, [.int ζ_16.1, .int ζ_16.2.1, .int ζ_16.2.2]))]) ++ [(q_13, .inr (3, [.int r_10.1, .int r_10.2.1, .int r_10.2.2]))]) hD [0, 1, 2, 3, 4, 5, 6, 7, 8, 9, 10, 11, 12, 13, 14, 15, 16, 17, 18, 19, 21, 20] rfl rfl
      refine runX_vS (wA := (XW d z b ζ_12.1 ++ [(q_14, .inr (3, [.int ζ_16.1, .int ζ_16.2.1, .int ζ_16.2.2]))])) (wB := [(q_13, .inr (3, [.int r_10.1, .int r_10.2.1, .int r_10.2.2]))]) (tl := ζ_12.2) (wA' := fun u => XW d z b (y_18 u).1) (tl' := fun u => (y_18 u).2) (va_runV (As := [.ref q_14]) (rest := []) S (tX0_change l D d z b K q_14 (ζ_16.1, ζ_16.2.1, ζ_16.2.2) ζ_12 y_18 h_17 _) (cwV 1 hts (lw_V q1044 q1046 qs28 q94 q1047) rfl rfl rfl (by decide +kernel) ⟨(Nat.le_of_ble_eq_true rfl), (Nat.le_of_ble_eq_true rfl)⟩) ⟨Pw.blind, (va_recv hK.1 hP (ci := 1) (q0 := 0) rfl rfl), fun U hU hW => Pw.atX (wB := [(q_13, .inr (3, [.int r_10.1, .int r_10.2.1, .int r_10.2.2]))]) hK hPc hDc hZ hS hA hU hW⟩ rfl rfl hl.1 rfl (lv_room (Nat.le_of_ble_eq_true rfl)) dX0_setSide_40 ⟨(Nat.le_of_ble_eq_true rfl), (Nat.le_of_ble_eq_true rfl)⟩) hPc hDc hS hA ?_
      clear hP hD hS hPc hDc
      intro u_20 _ H locs hP hD hS
      replace hf := hf u_20
      generalize y_18 u_20 = ζ_19 at hf hP hD ⊢
      clear h_17
      replace hf := hf (fun _ => 0)
      refine lv_aload_n hx hb dX0_setSide_43 rfl (lv_at hl 0 rfl) ?_
      refine g_getN hx hb hts S.2.2.2.1 hK hP in_X2 20 rfl rfl 0 (by decide) q185 (fun _ h9 => h9) (v := .int r_10.1) rfl dX0_setSide_44 ?_
      refine W.widen (k := 7) (n := 233) (Nat.le_of_ble_eq_true rfl) (Nat.le_of_ble_eq_true rfl) ?_
      replace hP := wP_subT (w := (XW d z b ζ_19.1 ++ [(q_13, .inr (3, [.int r_10.1, .int r_10.2.1, .int r_10.2.2]))])) (w1 := XW d z b ζ_19.1) hP [0, 1, 2, 3, 4, 5, 6, 7, 8, 9, 10, 11, 12, 13, 14, 15, 16, 17, 18, 19] rfl
      replace hD := wD_subT (w := (XW d z b ζ_19.1 ++ [(q_13, .inr (3, [.int r_10.1, .int r_10.2.1, .int r_10.2.2]))])) (w1 := XW d z b ζ_19.1) hD [0, 1, 2, 3, 4, 5, 6, 7, 8, 9, 10, 11, 12, 13, 14, 15, 16, 17, 18, 19] rfl rfl
      exact hret _ _ _ _ _ _ _ hf dX0_setSide_47 hP hD hS
    · replace hf := itU_f hf (bi_e0 c_8)
      clear c_8
      replace hf := hf (fun _ => 0)
      refine lv_iconst (v := -1) hx hb dX0_setSide_16 (by decide) ?_
      refine W.widen (k := 7) (n := 233) (Nat.le_of_ble_eq_true rfl) (Nat.le_of_ble_eq_true rfl) ?_
      exact hret _ _ _ _ _ _ _ hf dX0_setSide_17 hP hD hS
noncomputable def fX0_setCoil (K : Nat) (d : Nat → ClassId) (p0 : Int32) (u : UU) (μ : XT) : Option (Int32 × XT) :=
  b2 (fX0_isReady K μ.1) fun r_2 ζ_3 =>
  nm ((xmrg μ.1 ζ_3, μ.2)) fun ζ_4 =>
  if r_2 = true then
    b1 (fX0_isSetting K p0) fun r_6 =>
    if r_6 = true then
      b2 (fX0_present K ζ_4.1) fun r_10 ζ_11 =>
      nm ((xmrg ζ_4.1 ζ_11, ζ_4.2)) fun ζ_12 =>
      b1 (fX2_init K r_10.1 p0 r_10.2.2 ((0 : Int32), (0 : Int32), (0 : Int32))) fun ζ_16 =>
      b1u u (fun u => fX0_change K d (ζ_16.1, ζ_16.2.1, ζ_16.2.2) u ζ_12) fun ζ_19 u =>
      some (r_10.2.1, ζ_19)
    else
      some ((-1 : Int32), ζ_4)
  else
    some ((-1 : Int32), ζ_4)
set_option maxHeartbeats 4000000 in
set_option maxRecDepth 100000 in
theorem tX0_setCoil (l : Launch) (D : va_G) (d : Nat → ClassId) (z : ZT) (b : Nat → Nat) (K : Nat) (p0 : Int32) (μ : XT) (y : UU → (Int32 × XT)) (hf : ∀ u, fX0_setCoil K d p0 u μ = some (y u)) : CIS l yX0_setCoil (ws_ yX0_setCoil cX0_setCoil 3 (Option.some Jvm.ClassFile.FieldType.int)) (rmc 7 7 233 136) D d z [.ref (b 0), .int p0] (XW d z b μ.1 ++ μ.2) (fun u : UU => (y u).1) (fun u : UU => XW d z b (y u).2.1 ++ (y u).2.2) (fun _ => True) := by
  refine CIS.of (own := RX0) rfl (by decide) (Nat.le_of_ble_eq_true rfl) (fun _ => rfl) ?_
  intro p e s m args below meth c A Q ls S hin hK hP hD hZ hS hA hl hret0
  have hret : ∀ (U0 : UU) (x : Int32) (μx : XT) (H : Heap) (locs : List Loc) (pc : Nat) (ls' : Array Slot), some (x, μx) = some (y U0) → decode cX0_setCoil pc = .ok (.ireturn, 1) → va_P D CL (XW d z b μx.1 ++ μx.2) H → va_D A (XW d z b μx.1 ++ μx.2) → va_S A s.heap H locs → W p l e (rmc 7 7 233 136) s m args below meth c H locs 7 233 Q (F0 m pc ls' [.int x]) := by
    intro U0 x μx H locs pc ls' h9 hdg hP hD hS
    have h8 := hret0 U0 trivial H locs pc ls' hdg
    rw [← Option.some.inj h9] at h8
    exact h8 hP hD hS
  have hx := S.1
  have hb := S.2.1
  have hts := S.2.2.2.2
  have hl : lv_has ls 3 [(0, .ref (b 0)), (1, .int p0)] := hl
  unfold fX0_setCoil at hf
  refine lv_aload_n hx hb dX0_setCoil_0 rfl (lv_at hl 0 rfl) ?_
  obtain ⟨r_2, ζ_3, h_1, hf⟩ := b2U hf
  obtain ⟨ζ_4, e_ζ_4⟩ : ∃ x, x = (xmrg μ.1 ζ_3, μ.2) := ⟨_, rfl⟩
  refine run_i (w := XW d z b μ.1) (tl := μ.2) (wr := [(b 17, .inr (18, [.int (μ.1.1 70), .ref (b 18), .int (μ.1.1 72)])), (b 18, .inl (d 4, 16, .inr (.inr (.inr (.inr (μ.1.2.2.2.2 18)))))), (b 16, .inr (17, [.ref (b 19), .int (μ.1.1 81), .int (μ.1.1 82)])), (b 19, .inl (d 4, 17, .inr (.inr (.inr (.inr (μ.1.2.2.2.2 19))))))]) (w' := XW d z b ζ_4.1) (va_runV (As := []) (rest := []) S (tX0_isReady l D d z b (μ.1.2.2.2.2 6 0) K μ.1 r_2 ζ_3 h_1 _) (cwV 0 hts (lw_V q857 q859 qs18 q94 q860) rfl rfl rfl (by decide +kernel) ⟨(Nat.le_of_ble_eq_true rfl), (Nat.le_of_ble_eq_true rfl)⟩) ⟨Pw.blind, (va_recv hK.1 hP (ci := 1) (q0 := 0) rfl rfl), fun U hU hW => Pw.cut (w := XW d z b μ.1) (tl := μ.2) hK hP hD hZ hS hA [0, 1, 2, 3, 4, 5, 6, 7, 8, 9, 10, 11, 12, 13, 14, 15] rfl rfl hU hW⟩ rfl rfl hl.1 rfl (lv_room (Nat.le_of_ble_eq_true rfl)) dX0_setCoil_1 ⟨(Nat.le_of_ble_eq_true rfl), (Nat.le_of_ble_eq_true rfl)⟩) hP hD hS hA [0, 1, 2, 3, 4, 5, 6, 7, 8, 9, 10, 11, 12, 13, 14, 15] [16, 17, 18, 19] [4, 5, 6, 7, 8, 9, 10, 11, 12, 13, 14, 15, 16, 17, 18, 19, 0, 1, 2, 3] rfl rfl rfl rfl (by decide) rfl (by subst e_ζ_4; rfl) ?_
  clear hP hD hS
  intro H locs hP hD hS
  rw [show μ.2 = ζ_4.2 from by subst e_ζ_4; rfl] at hP hD
  clear h_1
  replace hf := nmU hf ζ_4 e_ζ_4
  clear e_ζ_4
  refine lv_if_eq (tgt := 14) hx hb dX0_setCoil_4 (by decide) (fun c_5 => ?_) (fun c_5 => ?_)
  · replace hf := itU_f hf (bi_e0 c_5)
    clear c_5
    replace hf := hf (fun _ => 0)
    refine lv_iconst (v := -1) hx hb dX0_setCoil_14 (by decide) ?_
    refine W.widen (k := 7) (n := 233) (Nat.le_of_ble_eq_true rfl) (Nat.le_of_ble_eq_true rfl) ?_
    exact hret _ _ _ _ _ _ _ hf dX0_setCoil_15 hP hD hS
  · replace hf := itU_t hf (bi_n0 c_5)
    clear c_5
    refine lv_iload_n hx hb dX0_setCoil_7 rfl (lv_at hl 1 rfl) ?_
    obtain ⟨r_6, h_7, hf⟩ := b1U hf
    refine si_call S (tX0_isSetting l K p0 _ h_7) (va_cwS 1 hts (lw_S q1060 q1061 q94 q1062) rfl rfl rfl (by decide +kernel) ⟨(Nat.le_of_ble_eq_true rfl), (Nat.le_of_ble_eq_true rfl)⟩) rfl hl.1 rfl (Nat.le_of_ble_eq_true rfl) ⟨(Nat.le_of_ble_eq_true rfl), (Nat.le_of_ble_eq_true rfl)⟩ dX0_setCoil_8 ?_
    clear h_7
    refine lv_if_ne (tgt := 16) hx hb dX0_setCoil_11 (by decide) (fun c_8 => ?_) (fun c_8 => ?_)
    · replace hf := itU_t hf (bi_n0 c_8)
      clear c_8
      refine lv_aload_n hx hb dX0_setCoil_16 rfl (lv_at hl 0 rfl) ?_
      obtain ⟨r_10, ζ_11, h_9, hf⟩ := b2U hf
      obtain ⟨ζ_12, e_ζ_12⟩ : ∃ x, x = (xmrg ζ_4.1 ζ_11, ζ_4.2) := ⟨_, rfl⟩
      refine run_rS (w := XW d z b ζ_4.1) (tl := ζ_4.2) (wr := [(b 17, .inr (18, [.int (ζ_4.1.1 70), .ref (b 18), .int (ζ_4.1.1 72)])), (b 18, .inl (d 4, 16, .inr (.inr (.inr (.inr (ζ_4.1.2.2.2.2 18)))))), (b 16, .inr (17, [.ref (b 19), .int (ζ_4.1.1 81), .int (ζ_4.1.1 82)])), (b 19, .inl (d 4, 17, .inr (.inr (.inr (.inr (ζ_4.1.2.2.2.2 19))))))]) (w' := fun u => (XW d z b ζ_12.1 ++ [(u, .inr (3, [.int r_10.1, .int r_10.2.1, .int r_10.2.2]))])) (va_runV (As := []) (rest := []) S (tX0_present l D d z b (ζ_4.1.2.2.2.2 6 0) K ζ_4.1 r_10 ζ_11 h_9 _) (cwV 0 hts (lw_V q1035 q1037 qs27 q94 q1038) rfl rfl rfl (by decide +kernel) ⟨(Nat.le_of_ble_eq_true rfl), (Nat.le_of_ble_eq_true rfl)⟩) ⟨Pw.blind, (va_recv hK.1 hP (ci := 1) (q0 := 0) rfl rfl), fun U hU hW => Pw.cut (w := XW d z b ζ_4.1) (tl := ζ_4.2) hK hP hD hZ hS hA [0, 1, 2, 3, 4, 5, 6, 7, 8, 9, 10, 11, 12, 13, 14, 15] rfl rfl hU hW⟩ rfl rfl hl.1 rfl (lv_room (Nat.le_of_ble_eq_true rfl)) dX0_setCoil_17 ⟨(Nat.le_of_ble_eq_true rfl), (Nat.le_of_ble_eq_true rfl)⟩) hP hD hS hA [0, 1, 2, 3, 4, 5, 6, 7, 8, 9, 10, 11, 12, 13, 14, 15] [16, 17, 18, 19] [4, 5, 6, 7, 8, 9, 10, 11, 12, 13, 14, 15, 16, 17, 18, 19, 0, 1, 2, 3, 20] rfl rfl rfl rfl (by decide) rfl (fun _ => by subst e_ζ_12; rfl) ?_
      clear hP hD hS
      intro q_13 _ H locs hP hD hS
      rw [show ζ_4.2 = ζ_12.2 from by subst e_ζ_12; rfl] at hP hD
      clear h_9
      replace hf := nmU hf ζ_12 e_ζ_12
      clear e_ζ_12
      refine lv_astore_n (lv' := [(2, .ref q_13), (0, .ref (b 0)), (1, .int p0)]) hx hb dX0_setCoil_20 rfl hl (by decide) rfl (fun ls hl => ?_)
      refine lv_aload_n hx hb dX0_setCoil_21 rfl (lv_at hl 1 rfl) ?_
      refine g_newT (w := (XW d z b ζ_12.1 ++ [(q_13, .inr (3, [.int r_10.1, .int r_10.2.1, .int r_10.2.2]))])) (tl := ζ_12.2) hx hb hts S.2.2.2.1 hK hP hD hS hA (ci := 3) in_X2 tyX2 tyX2_ok q178 q179 q97 rfl (fs := [.int (0 : Int32), .int (0 : Int32), .int (0 : Int32)]) (fun j hj => by rcases (show j = 0 ∨ j = 1 ∨ j = 2 by omega) with rfl | rfl | rfl <;> rfl) (Nat.le_of_ble_eq_true rfl) (Nat.le_of_ble_eq_true rfl) (w1 := fun q => (XW d z b ζ_12.1 ++ [(q_13, .inr (3, [.int r_10.1, .int r_10.2.1, .int r_10.2.2])), (q, .inr (3, [.int (0 : Int32), .int (0 : Int32), .int (0 : Int32)]))])) (fun _ => rfl) dX0_setCoil_22 ?_
      clear hP hD hS
      intro q_14 H hP hD hS
      refine lv_dup hx hb dX0_setCoil_25 rfl ?_
      refine lv_aload_n hx hb dX0_setCoil_26 rfl (lv_at hl 0 rfl) ?_
      refine g_getN hx hb hts S.2.2.2.1 hK hP in_X2 20 rfl rfl 0 (by decide) q185 (fun _ h9 => h9) (v := .int r_10.1) rfl dX0_setCoil_27 ?_
      refine lv_iload_n hx hb dX0_setCoil_30 rfl (lv_at hl 2 rfl) ?_
      refine lv_aload_n hx hb dX0_setCoil_31 rfl (lv_at hl 0 rfl) ?_
      refine g_getN hx hb hts S.2.2.2.1 hK hP in_X2 20 rfl rfl 2 (by decide) q191 (fun _ h9 => h9) (v := .int r_10.2.2) rfl dX0_setCoil_32 ?_
      obtain ⟨ζ_16, h_15, hf⟩ := b1U hf
      refine run_v (w := (XW d z b ζ_12.1 ++ [(q_13, .inr (3, [.int r_10.1, .int r_10.2.1, .int r_10.2.2])), (q_14, .inr (3, [.int (0 : Int32), .int (0 : Int32), .int (0 : Int32)]))])) (tl := ζ_12.2) (wr := [(b 0, .inr (1, [.ref (b 1), .int (ζ_12.1.1 1), .int (ζ_12.1.1 2), .ref (b 2), .ref (b 3), .ref (b 4), va_rf (ζ_12.1.2.2.2.2 6 0), .ref (b 7), .ref (b 13), .ref (b 16), .int (ζ_12.1.1 10)])), (b 1, .inl (d 2, 500, .inl (ζ_12.1.2.2.1 1))), (b 2, .inl (d 5, 2, .inr (.inr (.inr (.inr (fun j => some (z.2.2 j))))))), (b 3, .inl (d 6, 5, .inr (.inr (.inr (.inr (fun j => some (z.2.2 (2 + j)))))))), (b 4, .inr (4, [.int (ζ_12.1.1 20), .long (ζ_12.1.2.1 21), .long (ζ_12.1.2.1 22), .long (ζ_12.1.2.1 23), .ref (b 5), .ref (b 6), .ref (b 0)])), (b 5, .inr (2, [.long (ζ_12.1.2.1 30), .long (ζ_12.1.2.1 31)])), (b 6, .inr (2, [.long (ζ_12.1.2.1 32), .long (ζ_12.1.2.1 33)])), (b 7, .inr (6, [.int (ζ_12.1.1 40), .int (ζ_12.1.1 41), .int (ζ_12.1.1 42), .int (ζ_12.1.1 43), .int (ζ_12.1.1 44), .int (ζ_12.1.1 45), .ref (b 8), .ref (b 9), .ref (b 10), .int (ζ_12.1.1 49), .ref (b 11), .ref (b 12), .int (ζ_12.1.1 52)])), (b 8, .inl (d 0, 16, .inl (ζ_12.1.2.2.1 46))), (b 9, .inl (d 1, 16, .inr (.inl (ζ_12.1.2.2.2.1 47)))), (b 10, .inl (d 1, 16, .inr (.inl (ζ_12.1.2.2.2.1 48)))), (b 11, .inl (d 0, 8, .inl (ζ_12.1.2.2.1 50))), (b 12, .inl (d 0, 8, .inl (ζ_12.1.2.2.1 51))), (b 13, .inr (8, [.int (ζ_12.1.1 60), .int (ζ_12.1.1 61), .int (ζ_12.1.1 62), .int (ζ_12.1.1 63), .ref (b 14), .ref (b 15), .int (ζ_12.1.1 66), .ref (b 17)])), (b 14, .inl (d 0, 100, .inl (ζ_12.1.2.2.1 64))), (b 15, .inl (d 3, 100, .inl (ζ_12.1.2.2.1 65))), (b 17, .inr (18, [.int (ζ_12.1.1 70), .ref (b 18), .int (ζ_12.1.1 72)])), (b 18, .inl (d 4, 16, .inr (.inr (.inr (.inr (ζ_12.1.2.2.2.2 18)))))), (b 16, .inr (17, [.ref (b 19), .int (ζ_12.1.1 81), .int (ζ_12.1.1 82)])), (b 19, .inl (d 4, 17, .inr (.inr (.inr (.inr (ζ_12.1.2.2.2.2 19)))))), (q_13, .inr (3, [.int r_10.1, .int r_10.2.1, .int r_10.2.2]))]) (w' := (XW d z b ζ_12.1 ++ [(q_13, .inr (3, [.int r_10.1, .int r_10.2.1, .int r_10.2.2])), (q_14, .inr (3, [.int ζ_16.1, .int ζ_16.2.1, .int ζ_16.2.2]))])) (va_runI (As := [.int r_10.1, .int p0, .int r_10.2.2]) (rest := [.ref q_14, .ref (b 0)]) S (tX2_init l D d z q_14 K r_10.1 p0 r_10.2.2 ((0 : Int32), (0 : Int32), (0 : Int32)) ζ_16 h_15 _) (cwI 3 hts (lw_meth q182) rfl rfl rfl (hts _ q97) (hts _ q180) (hts _ q181) rfl (by decide +kernel) ⟨(Nat.le_of_ble_eq_true rfl), (Nat.le_of_ble_eq_true rfl)⟩) ⟨Pw.blind, fun U hU hW => Pw.cut (w := (XW d z b ζ_12.1 ++ [(q_13, .inr (3, [.int r_10.1, .int r_10.2.1, .int r_10.2.2])), (q_14, .inr (3, [.int (0 : Int32), .int (0 : Int32), .int (0 : Int32)]))])) (tl := ζ_12.2) hK hP hD hZ hS hA [21] rfl rfl hU hW⟩ rfl rfl hl.1 rfl (lv_room (Nat.le_of_ble_eq_true rfl)) dX0_setCoil_35 ⟨(Nat.le_of_ble_eq_true rfl), (Nat.le_of_ble_eq_true rfl)⟩) hP hD hS hA [21] [0, 1, 2, 3, 4, 5, 6, 7, 8, 9, 10, 11, 12, 13, 14, 15, 16, 17, 18, 19, 20] [0, 1, 2, 3, 4, 5, 6, 7, 8, 9, 10, 11, 12, 13, 14, 15, 16, 17, 18, 19, 20, 21] rfl rfl rfl rfl (by decide) rfl rfl ?_
      clear hP hD hS
      intro H locs hP hD hS
      clear h_15
      obtain ⟨y_18, h_17, hf⟩ := b1u_some hf
      have hPc := wP_subT (w := (XW d z b ζ_12.1 ++ [(q_13, .inr (3, [.int r_10.1, .int r_10.2.1, .int r_10.2.2])), (q_14, .inr (3, [.int ζ_16.1, .int ζ_16.2.1, .int ζ_16.2.2]))])) (w1 := (XW d z b ζ_12.1 ++ [(q_14, .inr (3, [.int ζ_16.1, .int ζ_16.2.1, .int ζ_16.2.2]))]) ++ [(q_13, .inr (3, [.int r_10.1, .int r_10.2.1, .int r_10.2.2]))]) hP [0, 1, 2, 3, 4, 5, 6, 7, 8, 9, 10, 11, 12, 13, 14, 15, 16, 17, 18, 19, 21, 20] rfl
      have hDc := wD_subT (w := (XW d z b ζ_12.1 ++ [(q_13, .inr (3, [.int r_10.1, .int r_10.2.1, .int r_10.2.2])), (q_14, .inr (3, [.int ζ_16.1, .int ζ_16.2.1, .int ζ_16.2.2]))])) (w1 := (XW d z b ζ_12.1 ++ [(q_14, .inr (3, [.int ζ_16.1, .int ζ_16.2.1, .int ζ_16.2.2]))]) ++ [(q_13, .inr (3, [.int r_10.1, .int r_10.2.1, .int r_10.2.2]))]) hD [0, 1, 2, 3, 4, 5, 6, 7, 8, 9, 10, 11, 12, 13, 14, 15, 16, 17, 18, 19, 21, 20] rfl rfl
      refine runX_vS (wA := (XW d z b ζ_12.1 ++ [(q_14, .inr (3, [.int ζ_16.1, .int ζ_16.2.1, .int ζ_16.2.2]))])) (wB := [(q_13, .inr (3, [.int r_10.1, .int r_10.2.1, .int r_10.2.2]))]) (tl := ζ_12.2) (wA' := fun u => XW d z b (y_18 u).1) (tl' := fun u => (y_18 u).2) (va_runV (As := [.ref q_14]) (rest := []) S (tX0_change l D d z b K q_14 (ζ_16.1, ζ_16.2.1, ζ_16.2.2) ζ_12 y_18 h_17 _) (cwV 1 hts (lw_V q1044 q1046 qs28 q94 q1047) rfl rfl rfl (by decide +kernel) ⟨(Nat.le_of_ble_eq_true rfl), (Nat.le_of_ble_eq_true rfl)⟩) ⟨Pw.blind, (va_recv hK.1 hP (ci := 1) (q0 := 0) rfl rfl), fun U hU hW => Pw.atX (wB := [(q_13, .inr (3, [.int r_10.1, .int r_10.2.1, .int r_10.2.2]))]) hK hPc hDc hZ hS hA hU hW⟩ rfl rfl hl.1 rfl (lv_room (Nat.le_of_ble_eq_true rfl)) dX0_setCoil_38 ⟨(Nat.le_of_ble_eq_true rfl), (Nat.le_of_ble_eq_true rfl)⟩) hPc hDc hS hA ?_
      clear hP hD hS hPc hDc
      intro u_20 _ H locs hP hD hS
      replace hf := hf u_20
      generalize y_18 u_20 = ζ_19 at hf hP hD ⊢
      clear h_17
      replace hf := hf (fun _ => 0)
      refine lv_aload_n hx hb dX0_setCoil_41 rfl (lv_at hl 0 rfl) ?_
      refine g_getN hx hb hts S.2.2.2.1 hK hP in_X2 20 rfl rfl 1 (by decide) q188 (fun _ h9 => h9) (v := .int r_10.2.1) rfl dX0_setCoil_42 ?_
      refine W.widen (k := 7) (n := 233) (Nat.le_of_ble_eq_true rfl) (Nat.le_of_ble_eq_true rfl) ?_
      replace hP := wP_subT (w := (XW d z b ζ_19.1 ++ [(q_13, .inr (3, [.int r_10.1, .int r_10.2.1, .int r_10.2.2]))])) (w1 := XW d z b ζ_19.1) hP [0, 1, 2, 3, 4, 5, 6, 7, 8, 9, 10, 11, 12, 13, 14, 15, 16, 17, 18, 19] rfl
      replace hD := wD_subT (w := (XW d z b ζ_19.1 ++ [(q_13, .inr (3, [.int r_10.1, .int r_10.2.1, .int r_10.2.2]))])) (w1 := XW d z b ζ_19.1) hD [0, 1, 2, 3, 4, 5, 6, 7, 8, 9, 10, 11, 12, 13, 14, 15, 16, 17, 18, 19] rfl rfl
      exact hret _ _ _ _ _ _ _ hf dX0_setCoil_45 hP hD hS
    · replace hf := itU_f hf (bi_e0 c_8)
      clear c_8
      replace hf := hf (fun _ => 0)
      refine lv_iconst (v := -1) hx hb dX0_setCoil_14 (by decide) ?_
      refine W.widen (k := 7) (n := 233) (Nat.le_of_ble_eq_true rfl) (Nat.le_of_ble_eq_true rfl) ?_
      exact hret _ _ _ _ _ _ _ hf dX0_setCoil_15 hP hD hS
noncomputable def fX0_setCapacitor (K : Nat) (d : Nat → ClassId) (p0 : Int32) (u : UU) (μ : XT) : Option (Int32 × XT) :=
  b2 (fX0_isReady K μ.1) fun r_2 ζ_3 =>
  nm ((xmrg μ.1 ζ_3, μ.2)) fun ζ_4 =>
  if r_2 = true then
    b1 (fX0_isSetting K p0) fun r_6 =>
    if r_6 = true then
      b2 (fX0_present K ζ_4.1) fun r_10 ζ_11 =>
      nm ((xmrg ζ_4.1 ζ_11, ζ_4.2)) fun ζ_12 =>
      b1 (fX2_init K r_10.1 r_10.2.1 p0 ((0 : Int32), (0 : Int32), (0 : Int32))) fun ζ_16 =>
      b1u u (fun u => fX0_change K d (ζ_16.1, ζ_16.2.1, ζ_16.2.2) u ζ_12) fun ζ_19 u =>
      some (r_10.2.2, ζ_19)
    else
      some ((-1 : Int32), ζ_4)
  else
    some ((-1 : Int32), ζ_4)
set_option maxHeartbeats 4000000 in
set_option maxRecDepth 100000 in
theorem tX0_setCapacitor (l : Launch) (D : va_G) (d : Nat → ClassId) (z : ZT) (b : Nat → Nat) (K : Nat) (p0 : Int32) (μ : XT) (y : UU → (Int32 × XT)) (hf : ∀ u, fX0_setCapacitor K d p0 u μ = some (y u)) : CIS l yX0_setCapacitor (ws_ yX0_setCapacitor cX0_setCapacitor 3 (Option.some Jvm.ClassFile.FieldType.int)) (rmc 7 7 233 136) D d z [.ref (b 0), .int p0] (XW d z b μ.1 ++ μ.2) (fun u : UU => (y u).1) (fun u : UU => XW d z b (y u).2.1 ++ (y u).2.2) (fun _ => True) := by
  refine CIS.of (own := RX0) rfl (by decide) (Nat.le_of_ble_eq_true rfl) (fun _ => rfl) ?_
  intro p e s m args below meth c A Q ls S hin hK hP hD hZ hS hA hl hret0
  have hret : ∀ (U0 : UU) (x : Int32) (μx : XT) (H : Heap) (locs : List Loc) (pc : Nat) (ls' : Array Slot), some (x, μx) = some (y U0) → decode cX0_setCapacitor pc = .ok (.ireturn, 1) → va_P D CL (XW d z b μx.1 ++ μx.2) H → va_D A (XW d z b μx.1 ++ μx.2) → va_S A s.heap H locs → W p l e (rmc 7 7 233 136) s m args below meth c H locs 7 233 Q (F0 m pc ls' [.int x]) := by
    intro U0 x μx H locs pc ls' h9 hdg hP hD hS
    have h8 := hret0 U0 trivial H locs pc ls' hdg
    rw [← Option.some.inj h9] at h8
    exact h8 hP hD hS
  have hx := S.1
  have hb := S.2.1
  have hts := S.2.2.2.2
  have hl : lv_has ls 3 [(0, .ref (b 0)), (1, .int p0)] := hl
  unfold fX0_setCapacitor at hf
  refine lv_aload_n hx hb dX0_setCapacitor_0 rfl (lv_at hl 0 rfl) ?_
  obtain ⟨r_2, ζ_3, h_1, hf⟩ := b2U hf
  obtain ⟨ζ_4, e_ζ_4⟩ : ∃ x, x = (xmrg μ.1 ζ_3, μ.2) := ⟨_, rfl⟩
  refine run_i (w := XW d z b μ.1) (tl := μ.2) (wr := [(b 17, .inr (18, [.int (μ.1.1 70), .ref (b 18), .int (μ.1.1 72)])), (b 18, .inl (d 4, 16, .inr (.inr (.inr (.inr (μ.1.2.2.2.2 18)))))), (b 16, .inr (17, [.ref (b 19), .int (μ.1.1 81), .int (μ.1.1 82)])), (b 19, .inl (d 4, 17, .inr (.inr (.inr (.inr (μ.1.2.2.2.2 19))))))]) (w' := XW d z b ζ_4.1) (va_runV (As := []) (rest := []) S (tX0_isReady l D d z b (μ.1.2.2.2.2 6 0) K μ.1 r_2 ζ_3 h_1 _) (cwV 0 hts (lw_V q857 q859 qs18 q94 q860) rfl rfl rfl (by decide +kernel) ⟨(Nat.le_of_ble_eq_true rfl), (Nat.le_of_ble_eq_true rfl)⟩) ⟨Pw.blind, (va_recv hK.1 hP (ci := 1) (q0 := 0) rfl rfl), fun U hU hW => Pw.cut (w := XW d z b μ.1) (tl := μ.2) hK hP hD hZ hS hA [0, 1, 2, 3, 4, 5, 6, 7, 8, 9, 10, 11, 12, 13, 14, 15] rfl rfl hU hW⟩ rfl rfl hl.1 rfl (lv_room (Nat.le_of_ble_eq_true rfl)) dX0_setCapacitor_1 ⟨(Nat.le_of_ble_eq_true rfl), (Nat.le_of_ble_eq_true rfl)⟩) hP hD hS hA [0, 1, 2, 3, 4, 5, 6, 7, 8, 9, 10, 11, 12, 13, 14, 15] [16, 17, 18, 19] [4, 5, 6, 7, 8, 9, 10, 11, 12, 13, 14, 15, 16, 17, 18, 19, 0, 1, 2, 3] rfl rfl rfl rfl (by decide) rfl (by subst e_ζ_4; rfl) ?_
  clear hP hD hS
  intro H locs hP hD hS
  rw [show μ.2 = ζ_4.2 from by subst e_ζ_4; rfl] at hP hD
  clear h_1
  replace hf := nmU hf ζ_4 e_ζ_4
  clear e_ζ_4
  refine lv_if_eq (tgt := 14) hx hb dX0_setCapacitor_4 (by decide) (fun c_5 => ?_) (fun c_5 => ?_)
  · replace hf := itU_f hf (bi_e0 c_5)
    clear c_5
    replace hf := hf (fun _ => 0)
    refine lv_iconst (v := -1) hx hb dX0_setCapacitor_14 (by decide) ?_
    refine W.widen (k := 7) (n := 233) (Nat.le_of_ble_eq_true rfl) (Nat.le_of_ble_eq_true rfl) ?_
    exact hret _ _ _ _ _ _ _ hf dX0_setCapacitor_15 hP hD hS
  · replace hf := itU_t hf (bi_n0 c_5)
    clear c_5
    refine lv_iload_n hx hb dX0_setCapacitor_7 rfl (lv_at hl 1 rfl) ?_
    obtain ⟨r_6, h_7, hf⟩ := b1U hf
    refine si_call S (tX0_isSetting l K p0 _ h_7) (va_cwS 1 hts (lw_S q1060 q1061 q94 q1062) rfl rfl rfl (by decide +kernel) ⟨(Nat.le_of_ble_eq_true rfl), (Nat.le_of_ble_eq_true rfl)⟩) rfl hl.1 rfl (Nat.le_of_ble_eq_true rfl) ⟨(Nat.le_of_ble_eq_true rfl), (Nat.le_of_ble_eq_true rfl)⟩ dX0_setCapacitor_8 ?_
    clear h_7
    refine lv_if_ne (tgt := 16) hx hb dX0_setCapacitor_11 (by decide) (fun c_8 => ?_) (fun c_8 => ?_)
    · replace hf := itU_t hf (bi_n0 c_8)
      clear c_8
      refine lv_aload_n hx hb dX0_setCapacitor_16 rfl (lv_at hl 0 rfl) ?_
      obtain ⟨r_10, ζ_11, h_9, hf⟩ := b2U hf
      obtain ⟨ζ_12, e_ζ_12⟩ : ∃ x, x = (xmrg ζ_4.1 ζ_11, ζ_4.2) := ⟨_, rfl⟩
      refine run_rS (w := XW d z b ζ_4.1) (tl := ζ_4.2) (wr := [(b 17, .inr (18, [.int (ζ_4.1.1 70), .ref (b 18), .int (ζ_4.1.1 72)])), (b 18, .inl (d 4, 16, .inr (.inr (.inr (.inr (ζ_4.1.2.2.2.2 18)))))), (b 16, .inr (17, [.ref (b 19), .int (ζ_4.1.1 81), .int (ζ_4.1.1 82)])), (b 19, .inl (d 4, 17, .inr (.inr (.inr (.inr (ζ_4.1.2.2.2.2 19))))))]) (w' := fun u => (XW d z b ζ_12.1 ++ [(u, .inr (3, [.int r_10.1, .int r_10.2.1, .int r_10.2.2]))])) (va_runV (As := []) (rest := []) S (tX0_present l D d z b (ζ_4.1.2.2.2.2 6 0) K ζ_4.1 r_10 ζ_11 h_9 _) (cwV 0 hts (lw_V q1035 q1037 qs27 q94 q1038) rfl rfl rfl (by decide +kernel) ⟨(Nat.le_of_ble_eq_true rfl), (Nat.le_of_ble_eq_true rfl)⟩) ⟨Pw.blind, (va_recv hK.1 hP (ci := 1) (q0 := 0) rfl rfl), fun U hU hW => Pw.cut (w := XW d z b ζ_4.1) (tl := ζ_4.2) hK hP hD hZ hS hA [0, 1, 2, 3, 4, 5, 6, 7, 8, 9, 10, 11, 12, 13, 14, 15] rfl rfl hU hW⟩ rfl rfl hl.1 rfl (lv_room (Nat.le_of_ble_eq_true rfl)) dX0_setCapacitor_17 ⟨(Nat.le_of_ble_eq_true rfl), (Nat.le_of_ble_eq_true rfl)⟩) hP hD hS hA [0, 1, 2, 3, 4, 5, 6, 7, 8, 9, 10, 11, 12, 13, 14, 15] [16, 17, 18, 19] [4, 5, 6, 7, 8, 9, 10, 11, 12, 13, 14, 15, 16, 17, 18, 19, 0, 1, 2, 3, 20] rfl rfl rfl rfl (by decide) rfl (fun _ => by subst e_ζ_12; rfl) ?_
      clear hP hD hS
      intro q_13 _ H locs hP hD hS
      rw [show ζ_4.2 = ζ_12.2 from by subst e_ζ_12; rfl] at hP hD
      clear h_9
      replace hf := nmU hf ζ_12 e_ζ_12
      clear e_ζ_12
      refine lv_astore_n (lv' := [(2, .ref q_13), (0, .ref (b 0)), (1, .int p0)]) hx hb dX0_setCapacitor_20 rfl hl (by decide) rfl (fun ls hl => ?_)
      refine lv_aload_n hx hb dX0_setCapacitor_21 rfl (lv_at hl 1 rfl) ?_
      refine g_newT (w := (XW d z b ζ_12.1 ++ [(q_13, .inr (3, [.int r_10.1, .int r_10.2.1, .int r_10.2.2]))])) (tl := ζ_12.2) hx hb hts S.2.2.2.1 hK hP hD hS hA (ci := 3) in_X2 tyX2 tyX2_ok q178 q179 q97 rfl (fs := [.int (0 : Int32), .int (0 : Int32), .int (0 : Int32)]) (fun j hj => by rcases (show j = 0 ∨ j = 1 ∨ j = 2 by omega) with rfl | rfl | rfl <;> rfl) (Nat.le_of_ble_eq_true rfl) (Nat.le_of_ble_eq_true rfl) (w1 := fun q => (XW d z b ζ_12.1 ++ [(q_13, .inr (3, [.int r_10.1, .int r_10.2.1, .int r_10.2.2])), (q, .inr (3, [.int (0 : Int32), .int (0 : Int32), .int (0 : Int32)]))])) (fun _ => rfl) dX0_setCapacitor_22 ?_
      clear hP hD hS
      intro q_14 H hP hD hS
      refine lv_dup hx hb dX0_setCapacitor_25 rfl ?_
      refine lv_aload_n hx hb dX0_setCapacitor_26 rfl (lv_at hl 0 rfl) ?_
      refine g_getN hx hb hts S.2.2.2.1 hK hP in_X2 20 rfl rfl 0 (by decide) q185 (fun _ h9 => h9) (v := .int r_10.1) rfl dX0_setCapacitor_27 ?_
      refine lv_aload_n hx hb dX0_setCapacitor_30 rfl (lv_at hl 0 rfl) ?_
      refine g_getN hx hb hts S.2.2.2.1 hK hP in_X2 20 rfl rfl 1 (by decide) q188 (fun _ h9 => h9) (v := .int r_10.2.1) rfl dX0_setCapacitor_31 ?_
      refine lv_iload_n hx hb dX0_setCapacitor_34 rfl (lv_at hl 2 rfl) ?_
      obtain ⟨ζ_16, h_15, hf⟩ := b1U hf
      refine run_v (w := (XW d z b ζ_12.1 ++ [(q_13, .inr (3, [.int r_10.1, .int r_10.2.1, .int r_10.2.2])), (q_14, .inr (3, [.int (0 : Int32), .int (0 : Int32), .int (0 : Int32)]))])) (tl := ζ_12.2) (wr := [(b 0, .inr (1, [.ref (b 1), .int (ζ_12.1.1 1), .int (ζ_12.1.1 2), .ref (b 2), .ref (b 3), .ref (b 4), va_rf (ζ_12.1.2.2.2.2 6 0), .ref (b 7), .ref (b 13), .ref (b 16), .int (ζ_12.1.1 10)])), (b 1, .inl (d 2, 500, .inl (ζ_12.1.2.2.1 1))), (b 2, .inl (d 5, 2, .inr (.inr (.inr (.inr (fun j => some (z.2.2 j))))))), (b 3, .inl (d 6, 5, .inr (.inr (.inr (.inr (fun j => some (z.2.2 (2 + j)))))))), (b 4, .inr (4, [.int (ζ_12.1.1 20), .long (ζ_12.1.2.1 21), .long (ζ_12.1.2.1 22), .long (ζ_12.1.2.1 23), .ref (b 5), .ref (b 6), .ref (b 0)])), (b 5, .inr (2, [.long (ζ_12.1.2.1 30), .long (ζ_12.1.2.1 31)])), (b 6, .inr (2, [.long (ζ_12.1.2.1 32), .long (ζ_12.1.2.1 33)])), (b 7, .inr (6, [.int (ζ_12.1.1 40), .int (ζ_12.1.1 41), .int (ζ_12.1.1 42), .int (ζ_12.1.1 43), .int (ζ_12.1.1 44), .int (ζ_12.1.1 45), .ref (b 8), .ref (b 9), .ref (b 10), .int (ζ_12.1.1 49), .ref (b 11), .ref (b 12), .int (ζ_12.1.1 52)])), (b 8, .inl (d 0, 16, .inl (ζ_12.1.2.2.1 46))), (b 9, .inl (d 1, 16, .inr (.inl (ζ_12.1.2.2.2.1 47)))), (b 10, .inl (d 1, 16, .inr (.inl (ζ_12.1.2.2.2.1 48)))), (b 11, .inl (d 0, 8, .inl (ζ_12.1.2.2.1 50))), (b 12, .inl (d 0, 8, .inl (ζ_12.1.2.2.1 51))), (b 13, .inr (8, [.int (ζ_12.1.1 60), .int (ζ_12.1.1 61), .int (ζ_12.1.1 62), .int (ζ_12.1.1 63), .ref (b 14), .ref (b 15), .int (ζ_12.1.1 66), .ref (b 17)])), (b 14, .inl (d 0, 100, .inl (ζ_12.1.2.2.1 64))), (b 15, .inl (d 3, 100, .inl (ζ_12.1.2.2.1 65))), (b 17, .inr (18, [.int (ζ_12.1.1 70), .ref (b 18), .int (ζ_12.1.1 72)])), (b 18, .inl (d 4, 16, .inr (.inr (.inr (.inr (ζ_12.1.2.2.2.2 18)))))), (b 16, .inr (17, [.ref (b 19), .int (ζ_12.1.1 81), .int (ζ_12.1.1 82)])), (b 19, .inl (d 4, 17, .inr (.inr (.inr (.inr (ζ_12.1.2.2.2.2 19)))))), (q_13, .inr (3, [.int r_10.1, .int r_10.2.1, .int r_10.2.2]))]) (w' := (XW d z b ζ_12.1 ++ [(q_13, .inr (3, [.int r_10.1, .int r_10.2.1, .int r_10.2.2])), (q_14, .inr (3, [.int ζ_16.1, .int ζ_16.2.1, .int ζ_16.2.2]))])) (va_runI (As := [.int r_10.1, .int r_10.2.1, .int p0]) (rest := [.ref q_14, .ref (b 0)]) S (tX2_init l D d z q_14 K r_10.1 r_10.2.1 p0 ((0 : Int32), (0 : Int32), (0 : Int32)) ζ_16 h_15 _) (cwI 3 hts (lw_meth q182) rfl rfl rfl (hts _ q97) (hts _ q180) (hts _ q181) rfl (by decide +kernel) ⟨(Nat.le_of_ble_eq_true rfl), (Nat.le_of_ble_eq_true rfl)⟩) ⟨Pw.blind, fun U hU hW => Pw.cut (w := (XW d z b ζ_12.1 ++ [(q_13, .inr (3, [.int r_10.1, .int r_10.2.1, .int r_10.2.2])), (q_14, .inr (3, [.int (0 : Int32), .int (0 : Int32), .int (0 : Int32)]))])) (tl := ζ_12.2) hK hP hD hZ hS hA [21] rfl rfl hU hW⟩ rfl rfl hl.1 rfl (lv_room (Nat.le_of_ble_eq_true rfl)) dX0_setCapacitor_35 ⟨(Nat.le_of_ble_eq_true rfl), (Nat.le_of_ble_eq_true rfl)⟩) hP hD hS hA [21] [0, 1, 2, 3, 4, 5, 6, 7, 8, 9, 10, 11, 12, 13, 14, 15, 16, 17, 18, 19, 20] [0, 1, 2, 3, 4, 5, 6, 7, 8, 9, 10, 11, 12, 13, 14, 15, 16, 17, 18, 19, 20, 21] rfl rfl rfl rfl (by decide) rfl rfl ?_
      clear hP hD hS
      intro H locs hP hD hS
      clear h_15
      obtain ⟨y_18, h_17, hf⟩ := b1u_some hf
      have hPc := wP_subT (w := (XW d z b ζ_12.1 ++ [(q_13, .inr (3, [.int r_10.1, .int r_10.2.1, .int r_10.2.2])), (q_14, .inr (3, [.int ζ_16.1, .int ζ_16.2.1, .int ζ_16.2.2]))])) (w1 := (XW d z b ζ_12.1 ++ [(q_14, .inr (3, [.int ζ_16.1, .int ζ_16.2.1, .int ζ_16.2.2]))]) ++ [(q_13, .inr (3, [.int r_10.1, .int r_10.2.1, .int r_10.2.2]))]) hP [0, 1, 2, 3, 4, 5, 6, 7, 8, 9, 10, 11, 12, 13, 14, 15, 16, 17, 18, 19, 21, 20] rfl
      have hDc := wD_subT (w := (XW d z b ζ_12.1 ++ [(q_13, .inr (3, [.int r_10.1, .int r_10.2.1, .int r_10.2.2])), (q_14, .inr (3, [.int ζ_16.1, .int ζ_16.2.1, .int ζ_16.2.2]))])) (w1 := (XW d z b ζ_12.1 ++ [(q_14, .inr (3, [.int ζ_16.1, .int ζ_16.2.1, .int ζ_16.2.2]))]) ++ [(q_13, .inr (3, [.int r_10.1, .int r_10.2.1, .int r_10.2.2]))]) hD [0, 1, 2, 3, 4, 5, 6, 7, 8, 9, 10, 11, 12, 13, 14, 15, 16, 17, 18, 19, 21, 20] rfl rfl
      refine runX_vS (wA := (XW d z b ζ_12.1 ++ [(q_14, .inr (3, [.int ζ_16.1, .int ζ_16.2.1, .int ζ_16.2.2]))])) (wB := [(q_13, .inr (3, [.int r_10.1, .int r_10.2.1, .int r_10.2.2]))]) (tl := ζ_12.2) (wA' := fun u => XW d z b (y_18 u).1) (tl' := fun u => (y_18 u).2) (va_runV (As := [.ref q_14]) (rest := []) S (tX0_change l D d z b K q_14 (ζ_16.1, ζ_16.2.1, ζ_16.2.2) ζ_12 y_18 h_17 _) (cwV 1 hts (lw_V q1044 q1046 qs28 q94 q1047) rfl rfl rfl (by decide +kernel) ⟨(Nat.le_of_ble_eq_true rfl), (Nat.le_of_ble_eq_true rfl)⟩) ⟨Pw.blind, (va_recv hK.1 hP (ci := 1) (q0 := 0) rfl rfl), fun U hU hW => Pw.atX (wB := [(q_13, .inr (3, [.int r_10.1, .int r_10.2.1, .int r_10.2.2]))]) hK hPc hDc hZ hS hA hU hW⟩ rfl rfl hl.1 rfl (lv_room (Nat.le_of_ble_eq_true rfl)) dX0_setCapacitor_38 ⟨(Nat.le_of_ble_eq_true rfl), (Nat.le_of_ble_eq_true rfl)⟩) hPc hDc hS hA ?_
      clear hP hD hS hPc hDc
      intro u_20 _ H locs hP hD hS
      replace hf := hf u_20
      generalize y_18 u_20 = ζ_19 at hf hP hD ⊢
      clear h_17
      replace hf := hf (fun _ => 0)
      refine lv_aload_n hx hb dX0_setCapacitor_41 rfl (lv_at hl 0 rfl) ?_
      refine g_getN hx hb hts S.2.2.2.1 hK hP in_X2 20 rfl rfl 2 (by decide) q191 (fun _ h9 => h9) (v := .int r_10.2.2) rfl dX0_setCapacitor_42 ?_
      refine W.widen (k := 7) (n := 233) (Nat.le_of_ble_eq_true rfl) (Nat.le_of_ble_eq_true rfl) ?_
      replace hP := wP_subT (w := (XW d z b ζ_19.1 ++ [(q_13, .inr (3, [.int r_10.1, .int r_10.2.1, .int r_10.2.2]))])) (w1 := XW d z b ζ_19.1) hP [0, 1, 2, 3, 4, 5, 6, 7, 8, 9, 10, 11, 12, 13, 14, 15, 16, 17, 18, 19] rfl
      replace hD := wD_subT (w := (XW d z b ζ_19.1 ++ [(q_13, .inr (3, [.int r_10.1, .int r_10.2.1, .int r_10.2.2]))])) (w1 := XW d z b ζ_19.1) hD [0, 1, 2, 3, 4, 5, 6, 7, 8, 9, 10, 11, 12, 13, 14, 15, 16, 17, 18, 19] rfl rfl
      exact hret _ _ _ _ _ _ _ hf dX0_setCapacitor_45 hP hD hS
    · replace hf := itU_f hf (bi_e0 c_8)
      clear c_8
      replace hf := hf (fun _ => 0)
      refine lv_iconst (v := -1) hx hb dX0_setCapacitor_14 (by decide) ?_
      refine W.widen (k := 7) (n := 233) (Nat.le_of_ble_eq_true rfl) (Nat.le_of_ble_eq_true rfl) ?_
      exact hret _ _ _ _ _ _ _ hf dX0_setCapacitor_15 hP hD hS
def fX0_relaysTo (K : Nat) (p0 : Int32) (p1 : Int32) (p2 : Int32) (μ : XS) : Option (Int32 × XS) :=
  b2 (fX0_areSettings K p0 p1 p2 μ) fun r_2 ξ_3 =>
  if r_2 = true then
    b1 (fX2_init K p0 p1 p2 ((0 : Int32), (0 : Int32), (0 : Int32))) fun ξ_7 =>
    b2 (fX2_code K (ξ_7.1, ξ_7.2.1, ξ_7.2.2)) fun r_9 ξ_10 =>
    b1 (fJ16_bitCount K (r_9 ^^^ (ξ_3.1 61))) fun r_11 =>
    some (r_11, ξ_3)
  else
    some ((-1 : Int32), ξ_3)
set_option maxHeartbeats 4000000 in
set_option maxRecDepth 100000 in
theorem tX0_relaysTo (l : Launch) (D : va_G) (d : Nat → ClassId) (z : ZT) (b : Nat → Nat) (fl : Option Nat) (K : Nat) (p0 : Int32) (p1 : Int32) (p2 : Int32) (μ : XS) (r : Int32) (μ' : XS) (hf : fX0_relaysTo K p0 p1 p2 μ = some (r, μ')) : CI l yX0_relaysTo (ws_ yX0_relaysTo cX0_relaysTo 4 (Option.some Jvm.ClassFile.FieldType.int)) (rmc 3 1 3 65) D d z [.ref (b 0), .int p0, .int p1, .int p2] (XP d z b fl μ) r (XP d z b fl μ') := by
  refine CI.of2 (own := RX0) rfl (by decide) (Nat.le_of_ble_eq_true rfl) rfl ?_
  intro p e s m args below meth c A Q ls S hin hK hP hD hZ hS hA hl hret0
  have hret : ∀ (x : Int32) (μx : XS) (H : Heap) (locs : List Loc) (pc : Nat) (ls' : Array Slot), some (x, μx) = some (r, μ') → decode cX0_relaysTo pc = .ok (.ireturn, 1) → va_P D CL (XP d z b fl μx) H → va_D A (XP d z b fl μx) → va_S A s.heap H locs → W p l e (rmc 3 1 3 65) s m args below meth c H locs 1 3 Q (F0 m pc ls' [.int x]) := by
    intro x μx H locs pc ls' h9 hdg hP hD hS
    obtain ⟨rfl, rfl⟩ := so_2 h9
    exact hret0 H locs pc ls' hdg hP hD hS
  have hx := S.1
  have hb := S.2.1
  have hts := S.2.2.2.2
  have hl : lv_has ls 4 [(0, .ref (b 0)), (1, .int p0), (2, .int p1), (3, .int p2)] := hl
  unfold fX0_relaysTo at hf
  refine lv_aload_n hx hb dX0_relaysTo_0 rfl (lv_at hl 0 rfl) ?_
  refine lv_iload_n hx hb dX0_relaysTo_1 rfl (lv_at hl 1 rfl) ?_
  refine lv_iload_n hx hb dX0_relaysTo_2 rfl (lv_at hl 2 rfl) ?_
  refine lv_iload_n hx hb dX0_relaysTo_3 rfl (lv_at hl 3 rfl) ?_
  obtain ⟨r_2, ξ_3, h_1, hf⟩ := b2_some hf
  refine runW_i (va_runV (As := [.int p0, .int p1, .int p2]) (rest := []) S (tX0_areSettings l D d z b fl K p0 p1 p2 μ r_2 ξ_3 h_1 _) (cwV 3 hts (lw_V q1079 q1081 qs29 q94 q1082) rfl rfl rfl (by decide +kernel) ⟨(Nat.le_of_ble_eq_true rfl), (Nat.le_of_ble_eq_true rfl)⟩) ⟨Pw.blind, (va_recv hK.1 hP (ci := 1) (q0 := 0) rfl rfl), fun U hU hW => Pw.at hK hP hD hZ hS hA hU hW⟩ rfl rfl hl.1 rfl (lv_room (Nat.le_of_ble_eq_true rfl)) dX0_relaysTo_4 ⟨(Nat.le_of_ble_eq_true rfl), (Nat.le_of_ble_eq_true rfl)⟩) hP hD hS hA ?_
  clear hP hD hS
  intro H locs hP hD hS
  clear h_1
  refine lv_if_eq (tgt := 37) hx hb dX0_relaysTo_7 (by decide) (fun c_4 => ?_) (fun c_4 => ?_)
  · replace hf := it_f hf (bi_e0 c_4)
    clear c_4
    refine lv_iconst (v := -1) hx hb dX0_relaysTo_37 (by decide) ?_
    refine W.widen (k := 1) (n := 3) (Nat.le_of_ble_eq_true rfl) (Nat.le_of_ble_eq_true rfl) ?_
    exact hret _ _ _ _ _ _ hf dX0_relaysTo_38 hP hD hS
  · replace hf := it_t hf (bi_n0 c_4)
    clear c_4
    refine g_new hx hb hts S.2.2.2.1 hK hP hD hS hA (ci := 3) in_X2 tyX2 tyX2_ok q178 q179 q97 rfl (fs := [.int (0 : Int32), .int (0 : Int32), .int (0 : Int32)]) (fun j hj => by rcases (show j = 0 ∨ j = 1 ∨ j = 2 by omega) with rfl | rfl | rfl <;> rfl) (Nat.le_of_ble_eq_true rfl) (Nat.le_of_ble_eq_true rfl) (w1 := fun q => XP d z b fl ξ_3 ++ [(q, .inr (3, [.int (0 : Int32), .int (0 : Int32), .int (0 : Int32)]))]) (fun _ => rfl) dX0_relaysTo_10 ?_
    clear hP hD hS
    intro q_5 H hP hD hS
    refine lv_dup hx hb dX0_relaysTo_13 rfl ?_
    refine lv_iload_n hx hb dX0_relaysTo_14 rfl (lv_at hl 1 rfl) ?_
    refine lv_iload_n hx hb dX0_relaysTo_15 rfl (lv_at hl 2 rfl) ?_
    refine lv_iload_n hx hb dX0_relaysTo_16 rfl (lv_at hl 3 rfl) ?_
    obtain ⟨ξ_7, h_6, hf⟩ := b1_some hf
    refine run_v0 (wr := [(b 0, .inr (1, [.ref (b 1), .int (ξ_3.1 1), .int (ξ_3.1 2), .ref (b 2), .ref (b 3), .ref (b 4), va_rf fl, .ref (b 7), .ref (b 13), .ref (b 16), .int (ξ_3.1 10)])), (b 1, .inl (d 2, 500, .inl (ξ_3.2.2.1 1))), (b 2, .inl (d 5, 2, .inr (.inr (.inr (.inr (fun j => some (z.2.2 j))))))), (b 3, .inl (d 6, 5, .inr (.inr (.inr (.inr (fun j => some (z.2.2 (2 + j)))))))), (b 4, .inr (4, [.int (ξ_3.1 20), .long (ξ_3.2.1 21), .long (ξ_3.2.1 22), .long (ξ_3.2.1 23), .ref (b 5), .ref (b 6), .ref (b 0)])), (b 5, .inr (2, [.long (ξ_3.2.1 30), .long (ξ_3.2.1 31)])), (b 6, .inr (2, [.long (ξ_3.2.1 32), .long (ξ_3.2.1 33)])), (b 7, .inr (6, [.int (ξ_3.1 40), .int (ξ_3.1 41), .int (ξ_3.1 42), .int (ξ_3.1 43), .int (ξ_3.1 44), .int (ξ_3.1 45), .ref (b 8), .ref (b 9), .ref (b 10), .int (ξ_3.1 49), .ref (b 11), .ref (b 12), .int (ξ_3.1 52)])), (b 8, .inl (d 0, 16, .inl (ξ_3.2.2.1 46))), (b 9, .inl (d 1, 16, .inr (.inl (ξ_3.2.2.2.1 47)))), (b 10, .inl (d 1, 16, .inr (.inl (ξ_3.2.2.2.1 48)))), (b 11, .inl (d 0, 8, .inl (ξ_3.2.2.1 50))), (b 12, .inl (d 0, 8, .inl (ξ_3.2.2.1 51))), (b 13, .inr (8, [.int (ξ_3.1 60), .int (ξ_3.1 61), .int (ξ_3.1 62), .int (ξ_3.1 63), .ref (b 14), .ref (b 15), .int (ξ_3.1 66), .ref (b 17)])), (b 14, .inl (d 0, 100, .inl (ξ_3.2.2.1 64))), (b 15, .inl (d 3, 100, .inl (ξ_3.2.2.1 65)))]) (w' := XP d z b fl ξ_3 ++ [(q_5, .inr (3, [.int ξ_7.1, .int ξ_7.2.1, .int ξ_7.2.2]))]) (va_runI (As := [.int p0, .int p1, .int p2]) (rest := [.ref q_5]) S (tX2_init l D d z q_5 K p0 p1 p2 ((0 : Int32), (0 : Int32), (0 : Int32)) ξ_7 h_6 _) (cwI 3 hts (lw_meth q182) rfl rfl rfl (hts _ q97) (hts _ q180) (hts _ q181) rfl (by decide +kernel) ⟨(Nat.le_of_ble_eq_true rfl), (Nat.le_of_ble_eq_true rfl)⟩) ⟨Pw.blind, fun U hU hW => Pw.cut (tl := []) hK (by rw [List.append_nil]; exact hP) (by rw [List.append_nil]; exact hD) hZ hS hA [16] rfl rfl hU hW⟩ rfl rfl hl.1 rfl (lv_room (Nat.le_of_ble_eq_true rfl)) dX0_relaysTo_17 ⟨(Nat.le_of_ble_eq_true rfl), (Nat.le_of_ble_eq_true rfl)⟩) hP hD hS hA [16] [0, 1, 2, 3, 4, 5, 6, 7, 8, 9, 10, 11, 12, 13, 14, 15] [0, 1, 2, 3, 4, 5, 6, 7, 8, 9, 10, 11, 12, 13, 14, 15, 16] rfl rfl rfl rfl (by decide) rfl rfl ?_
    clear hP hD hS
    intro H locs hP hD hS
    clear h_6
    obtain ⟨r_9, ξ_10, h_8, hf⟩ := b2_some hf
    refine run_i0 (wr := [(b 0, .inr (1, [.ref (b 1), .int (ξ_3.1 1), .int (ξ_3.1 2), .ref (b 2), .ref (b 3), .ref (b 4), va_rf fl, .ref (b 7), .ref (b 13), .ref (b 16), .int (ξ_3.1 10)])), (b 1, .inl (d 2, 500, .inl (ξ_3.2.2.1 1))), (b 2, .inl (d 5, 2, .inr (.inr (.inr (.inr (fun j => some (z.2.2 j))))))), (b 3, .inl (d 6, 5, .inr (.inr (.inr (.inr (fun j => some (z.2.2 (2 + j)))))))), (b 4, .inr (4, [.int (ξ_3.1 20), .long (ξ_3.2.1 21), .long (ξ_3.2.1 22), .long (ξ_3.2.1 23), .ref (b 5), .ref (b 6), .ref (b 0)])), (b 5, .inr (2, [.long (ξ_3.2.1 30), .long (ξ_3.2.1 31)])), (b 6, .inr (2, [.long (ξ_3.2.1 32), .long (ξ_3.2.1 33)])), (b 7, .inr (6, [.int (ξ_3.1 40), .int (ξ_3.1 41), .int (ξ_3.1 42), .int (ξ_3.1 43), .int (ξ_3.1 44), .int (ξ_3.1 45), .ref (b 8), .ref (b 9), .ref (b 10), .int (ξ_3.1 49), .ref (b 11), .ref (b 12), .int (ξ_3.1 52)])), (b 8, .inl (d 0, 16, .inl (ξ_3.2.2.1 46))), (b 9, .inl (d 1, 16, .inr (.inl (ξ_3.2.2.2.1 47)))), (b 10, .inl (d 1, 16, .inr (.inl (ξ_3.2.2.2.1 48)))), (b 11, .inl (d 0, 8, .inl (ξ_3.2.2.1 50))), (b 12, .inl (d 0, 8, .inl (ξ_3.2.2.1 51))), (b 13, .inr (8, [.int (ξ_3.1 60), .int (ξ_3.1 61), .int (ξ_3.1 62), .int (ξ_3.1 63), .ref (b 14), .ref (b 15), .int (ξ_3.1 66), .ref (b 17)])), (b 14, .inl (d 0, 100, .inl (ξ_3.2.2.1 64))), (b 15, .inl (d 3, 100, .inl (ξ_3.2.2.1 65)))]) (w' := XP d z b fl ξ_3 ++ [(q_5, .inr (3, [.int ξ_10.1, .int ξ_10.2.1, .int ξ_10.2.2]))]) (va_runV (As := []) (rest := []) S (tX2_code l D d z q_5 K (ξ_7.1, ξ_7.2.1, ξ_7.2.2) r_9 ξ_10 h_8 _) (cwV 0 hts (lw_V q1048 q1049 q1050 q97 q1051) rfl rfl rfl (by decide +kernel) ⟨(Nat.le_of_ble_eq_true rfl), (Nat.le_of_ble_eq_true rfl)⟩) ⟨Pw.blind, (va_recv hK.1 hP (ci := 3) (q0 := 16) rfl rfl), fun U hU hW => Pw.cut (tl := []) hK (by rw [List.append_nil]; exact hP) (by rw [List.append_nil]; exact hD) hZ hS hA [16] rfl rfl hU hW⟩ rfl rfl hl.1 rfl (lv_room (Nat.le_of_ble_eq_true rfl)) dX0_relaysTo_20 ⟨(Nat.le_of_ble_eq_true rfl), (Nat.le_of_ble_eq_true rfl)⟩) hP hD hS hA [16] [0, 1, 2, 3, 4, 5, 6, 7, 8, 9, 10, 11, 12, 13, 14, 15] [0, 1, 2, 3, 4, 5, 6, 7, 8, 9, 10, 11, 12, 13, 14, 15, 16] rfl rfl rfl rfl (by decide) rfl rfl ?_
    clear hP hD hS
    intro H locs hP hD hS
    clear h_8
    refine lv_aload_n hx hb dX0_relaysTo_23 rfl (lv_at hl 0 rfl) ?_
    refine g_get hx hb hts S.2.2.2.1 hK hP in_X0 0 rfl rfl 8 (by decide) q293 (fun _ h9 => h9) (v := .ref (b 13)) rfl dX0_relaysTo_24 ?_
    refine g_getN hx hb hts S.2.2.2.1 hK hP in_X8 13 rfl rfl 1 (by decide) q812 (fun _ h9 => h9) (v := .int (ξ_3.1 61)) rfl dX0_relaysTo_27 ?_
    refine lv_ixor hx hb dX0_relaysTo_30 ?_
    obtain ⟨r_11, h_12, hf⟩ := b1_some hf
    refine si_call S (tJ16_bitCount l K (r_9 ^^^ (ξ_3.1 61)) _ h_12) (va_cwS 1 hts (lw_S q1083 q1084 q120 q1085) rfl rfl rfl (by decide +kernel) ⟨(Nat.le_of_ble_eq_true rfl), (Nat.le_of_ble_eq_true rfl)⟩) rfl hl.1 rfl (Nat.le_of_ble_eq_true rfl) ⟨(Nat.le_of_ble_eq_true rfl), (Nat.le_of_ble_eq_true rfl)⟩ dX0_relaysTo_31 ?_
    clear h_12
    refine lv_goto (tgt := 38) hx hb dX0_relaysTo_34 (by decide) ?_
    have hP := hP.sub (ws' := XP d z b fl ξ_3) [0, 1, 2, 3, 4, 5, 6, 7, 8, 9, 10, 11, 12, 13, 14, 15] rfl
    have hD := hD.sub (ws' := XP d z b fl ξ_3) [0, 1, 2, 3, 4, 5, 6, 7, 8, 9, 10, 11, 12, 13, 14, 15] (by decide) rfl
    refine W.widen (k := 1) (n := 3) (Nat.le_of_ble_eq_true rfl) (Nat.le_of_ble_eq_true rfl) ?_
    exact hret _ _ _ _ _ _ hf dX0_relaysTo_38 hP hD hS
noncomputable def fX0_transmit_L153 (K : Nat) (d : Nat → ClassId) (k45 : Int32 → Int32 → Int32 → Int32 → Int32 → XT → Option (Int32 × XT)) (t153_0 : Int32) (t153_1 : Int32) (x153_1 : Int32) (x153_2 : Int32) (x153_3 : Int32) (x153_5 : Int32) (μ153 : XT) : Option (Int32 × XT) :=
  nm (t153_1 + t153_0) fun v_35 =>
  k45 x153_1 x153_2 x153_3 v_35 (x153_5 + (1 : Int32)) μ153
noncomputable def fX0_transmit_L138 (K : Nat) (d : Nat → ClassId) (k45 : Int32 → Int32 → Int32 → Int32 → Int32 → XT → Option (Int32 × XT)) (t138_0 : Int32) (x138_1 : Int32) (x138_2 : Int32) (x138_3 : Int32) (x138_4 : Int32) (x138_5 : Int32) (x138_6 : Int32) (μ138 : XT) : Option (Int32 × XT) :=
  nm ((xI μ138.1 62 t138_0, μ138.2)) fun ζ_33 =>
  if x138_6 = 0 then
    fX0_transmit_L153 K d k45 (0 : Int32) x138_4 x138_1 x138_2 x138_3 x138_5 ζ_33
  else
    fX0_transmit_L153 K d k45 (1 : Int32) x138_4 x138_1 x138_2 x138_3 x138_5 ζ_33
noncomputable def fX0_transmit_L115 (K : Nat) (d : Nat → ClassId) (k45 : Int32 → Int32 → Int32 → Int32 → Int32 → XT → Option (Int32 × XT)) (t115_0 : Int32) (x115_1 : Int32) (x115_2 : Int32) (x115_3 : Int32) (x115_4 : Int32) (x115_5 : Int32) (x115_6 : Int32) (μ115 : XT) : Option (Int32 × XT) :=
  b1 (fX8_record K t115_0 μ115.1) fun ζ_30 =>
  nm ((xmrg μ115.1 ζ_30, μ115.2)) fun ζ_31 =>
  if x115_6 = 0 then
    fX0_transmit_L138 K d k45 (ζ_31.1.1 62) x115_1 x115_2 x115_3 x115_4 x115_5 x115_6 ζ_31
  else
    fX0_transmit_L138 K d k45 (0 : Int32) x115_1 x115_2 x115_3 x115_4 x115_5 x115_6 ζ_31
noncomputable def fX0_transmit_L91 (K : Nat) (d : Nat → ClassId) (k45 : Int32 → Int32 → Int32 → Int32 → Int32 → XT → Option (Int32 × XT)) (t91_0 : Int32) (x91_1 : Int32) (x91_2 : Int32) (x91_3 : Int32) (x91_4 : Int32) (x91_5 : Int32) (μ91 : XT) : Option (Int32 × XT) :=
  if t91_0 = 0 then
    fX0_transmit_L115 K d k45 x91_2 x91_1 x91_2 x91_3 x91_4 x91_5 t91_0 μ91
  else
    nm (if ((4 : Int32) * x91_2) < (99999 : Int32) then ((4 : Int32) * x91_2) else (99999 : Int32)) fun v_36 =>
    fX0_transmit_L115 K d k45 v_36 x91_1 x91_2 x91_3 x91_4 x91_5 t91_0 μ91
noncomputable def fX0_transmit_L72 (K : Nat) (d : Nat → ClassId) (k45 : Int32 → Int32 → Int32 → Int32 → Int32 → XT → Option (Int32 × XT)) (t72_0 : Int32) (x72_1 : Int32) (x72_2 : Int32) (x72_3 : Int32) (x72_4 : Int32) (x72_5 : Int32) (μ72 : XT) : Option (Int32 × XT) :=
  nm ((xI μ72.1 62 t72_0, μ72.2)) fun ζ_26 =>
  if (ζ_26.1.1 62) = (3 : Int32) then
    fX0_transmit_L91 K d k45 (1 : Int32) x72_1 x72_2 x72_3 x72_4 x72_5 ζ_26
  else
    fX0_transmit_L91 K d k45 (0 : Int32) x72_1 x72_2 x72_3 x72_4 x72_5 ζ_26
noncomputable def fX0_transmit_L45 (K : Nat) (d : Nat → ClassId) : Nat → Int32 → Int32 → Int32 → Int32 → Int32 → XT → Option (Int32 × XT)
  | 0, _, _, _, _, _, _ => none
  | n + 1, x45_1, x45_2, x45_3, x45_4, x45_5, μ45 =>
    if x45_1 ≤ x45_5 then
      some (x45_4, μ45)
    else
      if x45_3 = 0 then
        fX0_transmit_L72 K d (fX0_transmit_L45 K d n) (0 : Int32) x45_1 x45_2 x45_3 x45_4 x45_5 μ45
      else
        fX0_transmit_L72 K d (fX0_transmit_L45 K d n) ((μ45.1.1 62) + (1 : Int32)) x45_1 x45_2 x45_3 x45_4 x45_5 μ45
noncomputable def fX0_transmit (K : Nat) (d : Nat → ClassId) (p0 : Int32) (u : UU) (μ : XT) : Option (Int32 × XT) :=
  b2 (fX0_isReady K μ.1) fun r_2 ζ_3 =>
  nm ((xmrg μ.1 ζ_3, μ.2)) fun ζ_4 =>
  if r_2 = true then
    b1 (fX0_isIn K p0 (1 : Int32) (50 : Int32)) fun r_6 =>
    if r_6 = true then
      b1u u (fun u => fX0_remember K d u ζ_4) fun ζ_11 u =>
      b1 (fX0_here K ζ_11.1) fun ζ_14 =>
      nm ((xmrg ζ_11.1 ζ_14, ζ_11.2)) fun ζ_15 =>
      b2 (fX3_swr K ζ_15.1) fun r_17 ζ_18 =>
      nm ((xmrg ζ_15.1 ζ_18, ζ_15.2)) fun ζ_19 =>
      b2 (fX3_isOverloaded K ζ_19.1) fun r_21 ζ_22 =>
      nm ((xmrg ζ_19.1 ζ_22, ζ_19.2)) fun ζ_23 =>
      fX0_transmit_L45 K d K p0 r_17 (bi r_21) (0 : Int32) (0 : Int32) ζ_23
    else
      some ((-1 : Int32), ζ_4)
  else
    some ((-1 : Int32), ζ_4)
set_option maxHeartbeats 4000000 in
set_option maxRecDepth 100000 in
theorem tX0_transmit (l : Launch) (D : va_G) (d : Nat → ClassId) (z : ZT) (b : Nat → Nat) (K : Nat) (p0 : Int32) (μ : XT) (y : UU → (Int32 × XT)) (hf : ∀ u, fX0_transmit K d p0 u μ = some (y u)) : CIS l yX0_transmit (ws_ yX0_transmit cX0_transmit 7 (Option.some Jvm.ClassFile.FieldType.int)) (rmc 7 5 227 152) D d z [.ref (b 0), .int p0] (XW d z b μ.1 ++ μ.2) (fun u : UU => (y u).1) (fun u : UU => XW d z b (y u).2.1 ++ (y u).2.2) (fun _ => True) := by
  refine CIS.of (own := RX0) rfl (by decide) (Nat.le_of_ble_eq_true rfl) (fun _ => rfl) ?_
  intro p e s m args below meth c A Q ls S hin hK hP hD hZ hS hA hl hret0
  have hret : ∀ (U0 : UU) (x : Int32) (μx : XT) (H : Heap) (locs : List Loc) (pc : Nat) (ls' : Array Slot), some (x, μx) = some (y U0) → decode cX0_transmit pc = .ok (.ireturn, 1) → va_P D CL (XW d z b μx.1 ++ μx.2) H → va_D A (XW d z b μx.1 ++ μx.2) → va_S A s.heap H locs → W p l e (rmc 7 5 227 152) s m args below meth c H locs 5 227 Q (F0 m pc ls' [.int x]) := by
    intro U0 x μx H locs pc ls' h9 hdg hP hD hS
    have h8 := hret0 U0 trivial H locs pc ls' hdg
    rw [← Option.some.inj h9] at h8
    exact h8 hP hD hS
  have hx := S.1
  have hb := S.2.1
  have hts := S.2.2.2.2
  have hl : lv_has ls 7 [(0, .ref (b 0)), (1, .int p0)] := hl
  have L45 : ∀ (n : Nat) (x45_1 : Int32) (x45_2 : Int32) (x45_3 : Int32) (x45_4 : Int32) (x45_5 : Int32) (μ45 : XT) (U0 : UU) (H : Heap) (locs : List Loc) (ls : Array Slot), fX0_transmit_L45 K d n x45_1 x45_2 x45_3 x45_4 x45_5 μ45 = some (y U0) → va_P D CL (XW d z b μ45.1 ++ μ45.2) H → va_D A (XW d z b μ45.1 ++ μ45.2) → va_S A s.heap H locs → lv_has ls 7 [(0, .ref (b 0)), (1, .int x45_1), (2, .int x45_2), (3, .int x45_3), (4, .int x45_4), (5, .int x45_5)] → W p l e (rmc 7 5 227 152) s m args below meth c H locs 5 227 Q (F0 m 45 ls []) := by
    intro n
    induction n with
    | zero =>
      intro x45_1 x45_2 x45_3 x45_4 x45_5 μ45 U0 H locs ls hf hP hD hS hl
      rw [fX0_transmit_L45] at hf
      cases hf
    | succ n ih =>
      have ih45 := ih
      have L153 : ∀ (t153_0 : Int32) (t153_1 : Int32) (x153_1 : Int32) (x153_2 : Int32) (x153_3 : Int32) (x153_5 : Int32) (μ153 : XT) (U0 : UU) (H : Heap) (locs : List Loc) (ls : Array Slot), fX0_transmit_L153 K d (fX0_transmit_L45 K d n) t153_0 t153_1 x153_1 x153_2 x153_3 x153_5 μ153 = some (y U0) → va_P D CL (XW d z b μ153.1 ++ μ153.2) H → va_D A (XW d z b μ153.1 ++ μ153.2) → va_S A s.heap H locs → lv_has ls 7 [(0, .ref (b 0)), (1, .int x153_1), (2, .int x153_2), (3, .int x153_3), (5, .int x153_5)] → W p l e (rmc 7 5 227 152) s m args below meth c H locs 5 227 Q (F0 m 153 ls [.int t153_0, .int t153_1]) := by
        intro t153_0 t153_1 x153_1 x153_2 x153_3 x153_5 μ153 U0 H locs ls hf hP hD hS hl
        unfold fX0_transmit_L153 at hf
        refine lv_iadd hx hb dX0_transmit_153 ?_
        refine lv_topi (fun v_35 e_ => ?_)
        replace hf := nm_some hf v_35 e_
        clear e_
        refine lv_istore (lv' := [(4, .int v_35), (0, .ref (b 0)), (1, .int x153_1), (2, .int x153_2), (3, .int x153_3), (5, .int x153_5)]) hx hb dX0_transmit_154 hl (by decide) rfl (fun ls hl => ?_)
        refine lv_iinc (v := x153_5 + (1 : Int32)) (lv' := [(5, .int (x153_5 + (1 : Int32))), (4, .int v_35), (0, .ref (b 0)), (1, .int x153_1), (2, .int x153_2), (3, .int x153_3)]) hx hb dX0_transmit_156 hl (k := 5) rfl rfl (by decide) rfl (fun ls hl => ?_)
        refine lv_goto (tgt := 45) hx hb dX0_transmit_159 (by decide) ?_
        exact ih45 x153_1 x153_2 x153_3 v_35 (x153_5 + (1 : Int32)) μ153 _ _ _ _ hf hP hD hS (lv_sub hl [2, 3, 4, 5, 1, 0] rfl)
      have L138 : ∀ (t138_0 : Int32) (x138_1 : Int32) (x138_2 : Int32) (x138_3 : Int32) (x138_4 : Int32) (x138_5 : Int32) (x138_6 : Int32) (μ138 : XT) (U0 : UU) (H : Heap) (locs : List Loc) (ls : Array Slot), fX0_transmit_L138 K d (fX0_transmit_L45 K d n) t138_0 x138_1 x138_2 x138_3 x138_4 x138_5 x138_6 μ138 = some (y U0) → va_P D CL (XW d z b μ138.1 ++ μ138.2) H → va_D A (XW d z b μ138.1 ++ μ138.2) → va_S A s.heap H locs → lv_has ls 7 [(0, .ref (b 0)), (1, .int x138_1), (2, .int x138_2), (3, .int x138_3), (4, .int x138_4), (5, .int x138_5), (6, .int x138_6)] → W p l e (rmc 7 5 227 152) s m args below meth c H locs 5 227 Q (F0 m 138 ls [.int t138_0, .ref (b 13)]) := by
        intro t138_0 x138_1 x138_2 x138_3 x138_4 x138_5 x138_6 μ138 U0 H locs ls hf hP hD hS hl
        unfold fX0_transmit_L138 at hf
        obtain ⟨ζ_33, e_ζ_33⟩ : ∃ x, x = (xI μ138.1 62 t138_0, μ138.2) := ⟨_, rfl⟩
        refine g_putN hx hb hts S.2.2.2.1 hK hP hD hS in_X8 tyX8 tyX8_ok nmX8 13 rfl rfl 2 (by decide) q814 (fun _ h9 => h9) rfl (v := .int t138_0) rfl rfl rfl (Nat.le_of_ble_eq_true rfl) (w' := XW d z b ζ_33.1 ++ ζ_33.2) (by subst e_ζ_33; rfl) dX0_transmit_138 ?_
        clear hP hD hS
        intro H locs hP hD hS
        replace hf := nm_some hf ζ_33 e_ζ_33
        clear e_ζ_33
        refine lv_iload hx hb dX0_transmit_141 (lv_at hl 4 rfl) ?_
        refine lv_iload hx hb dX0_transmit_143 (lv_at hl 6 rfl) ?_
        refine lv_if_eq (tgt := 152) hx hb dX0_transmit_145 (by decide) (fun c_34 => ?_) (fun c_34 => ?_)
        · replace hf := it_t hf c_34
          clear c_34
          refine lv_iconst (v := 0) hx hb dX0_transmit_152 (by decide) ?_
          exact L153 (0 : Int32) x138_4 x138_1 x138_2 x138_3 x138_5 ζ_33 _ _ _ _ hf hP hD hS (lv_sub hl [0, 1, 2, 3, 5] rfl)
        · replace hf := it_f hf c_34
          clear c_34
          refine lv_iconst (v := 1) hx hb dX0_transmit_148 (by decide) ?_
          refine lv_goto (tgt := 153) hx hb dX0_transmit_149 (by decide) ?_
          exact L153 (1 : Int32) x138_4 x138_1 x138_2 x138_3 x138_5 ζ_33 _ _ _ _ hf hP hD hS (lv_sub hl [0, 1, 2, 3, 5] rfl)
      have L115 : ∀ (t115_0 : Int32) (x115_1 : Int32) (x115_2 : Int32) (x115_3 : Int32) (x115_4 : Int32) (x115_5 : Int32) (x115_6 : Int32) (μ115 : XT) (U0 : UU) (H : Heap) (locs : List Loc) (ls : Array Slot), fX0_transmit_L115 K d (fX0_transmit_L45 K d n) t115_0 x115_1 x115_2 x115_3 x115_4 x115_5 x115_6 μ115 = some (y U0) → va_P D CL (XW d z b μ115.1 ++ μ115.2) H → va_D A (XW d z b μ115.1 ++ μ115.2) → va_S A s.heap H locs → lv_has ls 7 [(0, .ref (b 0)), (1, .int x115_1), (2, .int x115_2), (3, .int x115_3), (4, .int x115_4), (5, .int x115_5), (6, .int x115_6)] → W p l e (rmc 7 5 227 152) s m args below meth c H locs 5 227 Q (F0 m 115 ls [.int t115_0, .ref (b 13)]) := by
        intro t115_0 x115_1 x115_2 x115_3 x115_4 x115_5 x115_6 μ115 U0 H locs ls hf hP hD hS hl
        unfold fX0_transmit_L115 at hf
        obtain ⟨ζ_30, h_29, hf⟩ := b1_some hf
        obtain ⟨ζ_31, e_ζ_31⟩ : ∃ x, x = (xmrg μ115.1 ζ_30, μ115.2) := ⟨_, rfl⟩
        refine run_v (w := XW d z b μ115.1) (tl := μ115.2) (wr := [(b 17, .inr (18, [.int (μ115.1.1 70), .ref (b 18), .int (μ115.1.1 72)])), (b 18, .inl (d 4, 16, .inr (.inr (.inr (.inr (μ115.1.2.2.2.2 18)))))), (b 16, .inr (17, [.ref (b 19), .int (μ115.1.1 81), .int (μ115.1.1 82)])), (b 19, .inl (d 4, 17, .inr (.inr (.inr (.inr (μ115.1.2.2.2.2 19))))))]) (w' := XW d z b ζ_31.1) (va_runV (As := [.int t115_0]) (rest := []) S (tX8_record l D d z b (μ115.1.2.2.2.2 6 0) K t115_0 μ115.1 ζ_30 h_29 _) (cwV 1 hts (lw_V q1216 q1217 q1218 q116 q1219) rfl rfl rfl (by decide +kernel) ⟨(Nat.le_of_ble_eq_true rfl), (Nat.le_of_ble_eq_true rfl)⟩) ⟨Pw.blind, (va_recv hK.1 hP (ci := 8) (q0 := 13) rfl rfl), fun U hU hW => Pw.cut (w := XW d z b μ115.1) (tl := μ115.2) hK hP hD hZ hS hA [0, 1, 2, 3, 4, 5, 6, 7, 8, 9, 10, 11, 12, 13, 14, 15] rfl rfl hU hW⟩ rfl rfl hl.1 rfl (lv_room (Nat.le_of_ble_eq_true rfl)) dX0_transmit_115 ⟨(Nat.le_of_ble_eq_true rfl), (Nat.le_of_ble_eq_true rfl)⟩) hP hD hS hA [0, 1, 2, 3, 4, 5, 6, 7, 8, 9, 10, 11, 12, 13, 14, 15] [16, 17, 18, 19] [4, 5, 6, 7, 8, 9, 10, 11, 12, 13, 14, 15, 16, 17, 18, 19, 0, 1, 2, 3] rfl rfl rfl rfl (by decide) rfl (by subst e_ζ_31; rfl) ?_
        clear hP hD hS
        intro H locs hP hD hS
        rw [show μ115.2 = ζ_31.2 from by subst e_ζ_31; rfl] at hP hD
        clear h_29
        replace hf := nm_some hf ζ_31 e_ζ_31
        clear e_ζ_31
        refine lv_aload_n hx hb dX0_transmit_118 rfl (lv_at hl 0 rfl) ?_
        refine g_get hx hb hts S.2.2.2.1 hK hP in_X0 0 rfl rfl 8 (by decide) q293 (fun _ h9 => h9) (v := .ref (b 13)) rfl dX0_transmit_119 ?_
        refine lv_iload hx hb dX0_transmit_122 (lv_at hl 6 rfl) ?_
        refine lv_if_eq (tgt := 131) hx hb dX0_transmit_124 (by decide) (fun c_32 => ?_) (fun c_32 => ?_)
        · replace hf := it_t hf c_32
          clear c_32
          refine lv_aload_n hx hb dX0_transmit_131 rfl (lv_at hl 0 rfl) ?_
          refine g_get hx hb hts S.2.2.2.1 hK hP in_X0 0 rfl rfl 8 (by decide) q293 (fun _ h9 => h9) (v := .ref (b 13)) rfl dX0_transmit_132 ?_
          refine g_getN hx hb hts S.2.2.2.1 hK hP in_X8 13 rfl rfl 2 (by decide) q814 (fun _ h9 => h9) (v := .int (ζ_31.1.1 62)) rfl dX0_transmit_135 ?_
          exact L138 (ζ_31.1.1 62) x115_1 x115_2 x115_3 x115_4 x115_5 x115_6 ζ_31 _ _ _ _ hf hP hD hS (lv_sub hl [0, 1, 2, 3, 4, 5, 6] rfl)
        · replace hf := it_f hf c_32
          clear c_32
          refine lv_iconst (v := 0) hx hb dX0_transmit_127 (by decide) ?_
          refine lv_goto (tgt := 138) hx hb dX0_transmit_128 (by decide) ?_
          exact L138 (0 : Int32) x115_1 x115_2 x115_3 x115_4 x115_5 x115_6 ζ_31 _ _ _ _ hf hP hD hS (lv_sub hl [0, 1, 2, 3, 4, 5, 6] rfl)
      have L91 : ∀ (t91_0 : Int32) (x91_1 : Int32) (x91_2 : Int32) (x91_3 : Int32) (x91_4 : Int32) (x91_5 : Int32) (μ91 : XT) (U0 : UU) (H : Heap) (locs : List Loc) (ls : Array Slot), fX0_transmit_L91 K d (fX0_transmit_L45 K d n) t91_0 x91_1 x91_2 x91_3 x91_4 x91_5 μ91 = some (y U0) → va_P D CL (XW d z b μ91.1 ++ μ91.2) H → va_D A (XW d z b μ91.1 ++ μ91.2) → va_S A s.heap H locs → lv_has ls 7 [(0, .ref (b 0)), (1, .int x91_1), (2, .int x91_2), (3, .int x91_3), (4, .int x91_4), (5, .int x91_5)] → W p l e (rmc 7 5 227 152) s m args below meth c H locs 5 227 Q (F0 m 91 ls [.int t91_0]) := by
        intro t91_0 x91_1 x91_2 x91_3 x91_4 x91_5 μ91 U0 H locs ls hf hP hD hS hl
        unfold fX0_transmit_L91 at hf
        refine lv_istore (lv' := [(6, .int t91_0), (0, .ref (b 0)), (1, .int x91_1), (2, .int x91_2), (3, .int x91_3), (4, .int x91_4), (5, .int x91_5)]) hx hb dX0_transmit_91 hl (by decide) rfl (fun ls hl => ?_)
        refine lv_aload_n hx hb dX0_transmit_93 rfl (lv_at hl 1 rfl) ?_
        refine g_get hx hb hts S.2.2.2.1 hK hP in_X0 0 rfl rfl 8 (by decide) q293 (fun _ h9 => h9) (v := .ref (b 13)) rfl dX0_transmit_94 ?_
        refine lv_iload hx hb dX0_transmit_97 (lv_at hl 0 rfl) ?_
        refine lv_if_eq (tgt := 114) hx hb dX0_transmit_99 (by decide) (fun c_28 => ?_) (fun c_28 => ?_)
        · replace hf := it_t hf c_28
          clear c_28
          refine lv_iload_n hx hb dX0_transmit_114 rfl (lv_at hl 3 rfl) ?_
          exact L115 x91_2 x91_1 x91_2 x91_3 x91_4 x91_5 t91_0 μ91 _ _ _ _ hf hP hD hS (lv_sub hl [1, 2, 3, 4, 5, 6, 0] rfl)
        · replace hf := it_f hf c_28
          clear c_28
          refine lv_ldcw hx hb S.2.2.2.1 (hts _ q1214) dX0_transmit_102 ?_
          refine lv_iconst (v := 4) hx hb dX0_transmit_105 (by decide) ?_
          refine lv_iload_n hx hb dX0_transmit_106 rfl (lv_at hl 3 rfl) ?_
          refine lv_imul hx hb dX0_transmit_107 ?_
          refine va_mmin hx hb (S.2.2.1.trans hl.1.symm) S.2.2.2.1 (hts _ q1215) (hts _ q528) (hts _ q96) (hts _ q529) (Nat.le_of_ble_eq_true rfl) (Nat.le_of_ble_eq_true rfl) (Nat.le_of_ble_eq_true rfl) (Nat.le_of_ble_eq_true rfl) dX0_transmit_108 ?_
          refine lv_topi (fun v_36 e_ => ?_)
          replace hf := nm_some hf v_36 e_
          clear e_
          refine lv_goto (tgt := 115) hx hb dX0_transmit_111 (by decide) ?_
          exact L115 v_36 x91_1 x91_2 x91_3 x91_4 x91_5 t91_0 μ91 _ _ _ _ hf hP hD hS (lv_sub hl [1, 2, 3, 4, 5, 6, 0] rfl)
      have L72 : ∀ (t72_0 : Int32) (x72_1 : Int32) (x72_2 : Int32) (x72_3 : Int32) (x72_4 : Int32) (x72_5 : Int32) (μ72 : XT) (U0 : UU) (H : Heap) (locs : List Loc) (ls : Array Slot), fX0_transmit_L72 K d (fX0_transmit_L45 K d n) t72_0 x72_1 x72_2 x72_3 x72_4 x72_5 μ72 = some (y U0) → va_P D CL (XW d z b μ72.1 ++ μ72.2) H → va_D A (XW d z b μ72.1 ++ μ72.2) → va_S A s.heap H locs → lv_has ls 7 [(0, .ref (b 0)), (1, .int x72_1), (2, .int x72_2), (3, .int x72_3), (4, .int x72_4), (5, .int x72_5)] → W p l e (rmc 7 5 227 152) s m args below meth c H locs 5 227 Q (F0 m 72 ls [.int t72_0, .ref (b 13)]) := by
        intro t72_0 x72_1 x72_2 x72_3 x72_4 x72_5 μ72 U0 H locs ls hf hP hD hS hl
        unfold fX0_transmit_L72 at hf
        obtain ⟨ζ_26, e_ζ_26⟩ : ∃ x, x = (xI μ72.1 62 t72_0, μ72.2) := ⟨_, rfl⟩
        refine g_putN hx hb hts S.2.2.2.1 hK hP hD hS in_X8 tyX8 tyX8_ok nmX8 13 rfl rfl 2 (by decide) q814 (fun _ h9 => h9) rfl (v := .int t72_0) rfl rfl rfl (Nat.le_of_ble_eq_true rfl) (w' := XW d z b ζ_26.1 ++ ζ_26.2) (by subst e_ζ_26; rfl) dX0_transmit_72 ?_
        clear hP hD hS
        intro H locs hP hD hS
        replace hf := nm_some hf ζ_26 e_ζ_26
        clear e_ζ_26
        refine lv_aload_n hx hb dX0_transmit_75 rfl (lv_at hl 0 rfl) ?_
        refine g_get hx hb hts S.2.2.2.1 hK hP in_X0 0 rfl rfl 8 (by decide) q293 (fun _ h9 => h9) (v := .ref (b 13)) rfl dX0_transmit_76 ?_
        refine g_getN hx hb hts S.2.2.2.1 hK hP in_X8 13 rfl rfl 2 (by decide) q814 (fun _ h9 => h9) (v := .int (ζ_26.1.1 62)) rfl dX0_transmit_79 ?_
        refine lv_iconst (v := 3) hx hb dX0_transmit_82 (by decide) ?_
        refine lv_icmp_ne (tgt := 90) hx hb dX0_transmit_83 (by decide) (fun c_27 => ?_) (fun c_27 => ?_)
        · replace hf := it_f hf c_27
          clear c_27
          refine lv_iconst (v := 0) hx hb dX0_transmit_90 (by decide) ?_
          exact L91 (0 : Int32) x72_1 x72_2 x72_3 x72_4 x72_5 ζ_26 _ _ _ _ hf hP hD hS (lv_sub hl [0, 1, 2, 3, 4, 5] rfl)
        · replace hf := it_t hf c_27
          clear c_27
          refine lv_iconst (v := 1) hx hb dX0_transmit_86 (by decide) ?_
          refine lv_goto (tgt := 91) hx hb dX0_transmit_87 (by decide) ?_
          exact L91 (1 : Int32) x72_1 x72_2 x72_3 x72_4 x72_5 ζ_26 _ _ _ _ hf hP hD hS (lv_sub hl [0, 1, 2, 3, 4, 5] rfl)
      intro x45_1 x45_2 x45_3 x45_4 x45_5 μ45 U0 H locs ls hf hP hD hS hl
      rw [fX0_transmit_L45] at hf
      refine lv_iload hx hb dX0_transmit_45 (lv_at hl 5 rfl) ?_
      refine lv_iload_n hx hb dX0_transmit_47 rfl (lv_at hl 1 rfl) ?_
      refine lv_icmp_ge (tgt := 162) hx hb dX0_transmit_48 (by decide) (fun c_24 => ?_) (fun c_24 => ?_)
      · replace hf := it_t hf c_24
        clear c_24
        refine lv_iload hx hb dX0_transmit_162 (lv_at hl 4 rfl) ?_
        refine W.widen (k := 5) (n := 227) (Nat.le_of_ble_eq_true rfl) (Nat.le_of_ble_eq_true rfl) ?_
        exact hret _ _ _ _ _ _ _ hf dX0_transmit_164 hP hD hS
      · replace hf := it_f hf c_24
        clear c_24
        refine lv_aload_n hx hb dX0_transmit_51 rfl (lv_at hl 0 rfl) ?_
        refine g_get hx hb hts S.2.2.2.1 hK hP in_X0 0 rfl rfl 8 (by decide) q293 (fun _ h9 => h9) (v := .ref (b 13)) rfl dX0_transmit_52 ?_
        refine lv_iload_n hx hb dX0_transmit_55 rfl (lv_at hl 3 rfl) ?_
        refine lv_if_eq (tgt := 71) hx hb dX0_transmit_56 (by decide) (fun c_25 => ?_) (fun c_25 => ?_)
        · replace hf := it_t hf c_25
          clear c_25
          refine lv_iconst (v := 0) hx hb dX0_transmit_71 (by decide) ?_
          exact L72 (0 : Int32) x45_1 x45_2 x45_3 x45_4 x45_5 μ45 _ _ _ _ hf hP hD hS (lv_sub hl [0, 1, 2, 3, 4, 5] rfl)
        · replace hf := it_f hf c_25
          clear c_25
          refine lv_aload_n hx hb dX0_transmit_59 rfl (lv_at hl 0 rfl) ?_
          refine g_get hx hb hts S.2.2.2.1 hK hP in_X0 0 rfl rfl 8 (by decide) q293 (fun _ h9 => h9) (v := .ref (b 13)) rfl dX0_transmit_60 ?_
          refine g_getN hx hb hts S.2.2.2.1 hK hP in_X8 13 rfl rfl 2 (by decide) q814 (fun _ h9 => h9) (v := .int (μ45.1.1 62)) rfl dX0_transmit_63 ?_
          refine lv_iconst (v := 1) hx hb dX0_transmit_66 (by decide) ?_
          refine lv_iadd hx hb dX0_transmit_67 ?_
          refine lv_goto (tgt := 72) hx hb dX0_transmit_68 (by decide) ?_
          exact L72 ((μ45.1.1 62) + (1 : Int32)) x45_1 x45_2 x45_3 x45_4 x45_5 μ45 _ _ _ _ hf hP hD hS (lv_sub hl [0, 1, 2, 3, 4, 5] rfl)
  unfold fX0_transmit at hf
  refine lv_aload_n hx hb dX0_transmit_0 rfl (lv_at hl 0 rfl) ?_
  obtain ⟨r_2, ζ_3, h_1, hf⟩ := b2U hf
  obtain ⟨ζ_4, e_ζ_4⟩ : ∃ x, x = (xmrg μ.1 ζ_3, μ.2) := ⟨_, rfl⟩
  refine run_i (w := XW d z b μ.1) (tl := μ.2) (wr := [(b 17, .inr (18, [.int (μ.1.1 70), .ref (b 18), .int (μ.1.1 72)])), (b 18, .inl (d 4, 16, .inr (.inr (.inr (.inr (μ.1.2.2.2.2 18)))))), (b 16, .inr (17, [.ref (b 19), .int (μ.1.1 81), .int (μ.1.1 82)])), (b 19, .inl (d 4, 17, .inr (.inr (.inr (.inr (μ.1.2.2.2.2 19))))))]) (w' := XW d z b ζ_4.1) (va_runV (As := []) (rest := []) S (tX0_isReady l D d z b (μ.1.2.2.2.2 6 0) K μ.1 r_2 ζ_3 h_1 _) (cwV 0 hts (lw_V q857 q859 qs18 q94 q860) rfl rfl rfl (by decide +kernel) ⟨(Nat.le_of_ble_eq_true rfl), (Nat.le_of_ble_eq_true rfl)⟩) ⟨Pw.blind, (va_recv hK.1 hP (ci := 1) (q0 := 0) rfl rfl), fun U hU hW => Pw.cut (w := XW d z b μ.1) (tl := μ.2) hK hP hD hZ hS hA [0, 1, 2, 3, 4, 5, 6, 7, 8, 9, 10, 11, 12, 13, 14, 15] rfl rfl hU hW⟩ rfl rfl hl.1 rfl (lv_room (Nat.le_of_ble_eq_true rfl)) dX0_transmit_1 ⟨(Nat.le_of_ble_eq_true rfl), (Nat.le_of_ble_eq_true rfl)⟩) hP hD hS hA [0, 1, 2, 3, 4, 5, 6, 7, 8, 9, 10, 11, 12, 13, 14, 15] [16, 17, 18, 19] [4, 5, 6, 7, 8, 9, 10, 11, 12, 13, 14, 15, 16, 17, 18, 19, 0, 1, 2, 3] rfl rfl rfl rfl (by decide) rfl (by subst e_ζ_4; rfl) ?_
  clear hP hD hS
  intro H locs hP hD hS
  rw [show μ.2 = ζ_4.2 from by subst e_ζ_4; rfl] at hP hD
  clear h_1
  replace hf := nmU hf ζ_4 e_ζ_4
  clear e_ζ_4
  refine lv_if_eq (tgt := 17) hx hb dX0_transmit_4 (by decide) (fun c_5 => ?_) (fun c_5 => ?_)
  · replace hf := itU_f hf (bi_e0 c_5)
    clear c_5
    replace hf := hf (fun _ => 0)
    refine lv_iconst (v := -1) hx hb dX0_transmit_17 (by decide) ?_
    refine W.widen (k := 5) (n := 227) (Nat.le_of_ble_eq_true rfl) (Nat.le_of_ble_eq_true rfl) ?_
    exact hret _ _ _ _ _ _ _ hf dX0_transmit_18 hP hD hS
  · replace hf := itU_t hf (bi_n0 c_5)
    clear c_5
    refine lv_iload_n hx hb dX0_transmit_7 rfl (lv_at hl 1 rfl) ?_
    refine lv_iconst (v := 1) hx hb dX0_transmit_8 (by decide) ?_
    refine lv_bipush (v := 50) hx hb dX0_transmit_9 (by decide) ?_
    obtain ⟨r_6, h_7, hf⟩ := b1U hf
    refine si_call S (tX0_isIn l K p0 (1 : Int32) (50 : Int32) _ h_7) (va_cwS 3 hts (lw_S q331 q332 q94 q333) rfl rfl rfl (by decide +kernel) ⟨(Nat.le_of_ble_eq_true rfl), (Nat.le_of_ble_eq_true rfl)⟩) rfl hl.1 rfl (Nat.le_of_ble_eq_true rfl) ⟨(Nat.le_of_ble_eq_true rfl), (Nat.le_of_ble_eq_true rfl)⟩ dX0_transmit_11 ?_
    clear h_7
    refine lv_if_ne (tgt := 19) hx hb dX0_transmit_14 (by decide) (fun c_8 => ?_) (fun c_8 => ?_)
    · replace hf := itU_t hf (bi_n0 c_8)
      clear c_8
      refine lv_aload_n hx hb dX0_transmit_19 rfl (lv_at hl 0 rfl) ?_
      obtain ⟨y_10, h_9, hf⟩ := b1u_some hf
      refine runW_vS (va_runV (As := []) (rest := []) S (tX0_remember l D d z b K ζ_4 y_10 h_9 _) (cwV 0 hts (lw_V q899 q901 qs20 q94 q902) rfl rfl rfl (by decide +kernel) ⟨(Nat.le_of_ble_eq_true rfl), (Nat.le_of_ble_eq_true rfl)⟩) ⟨Pw.blind, (va_recv hK.1 hP (ci := 1) (q0 := 0) rfl rfl), fun U hU hW => Pw.at hK hP hD hZ hS hA hU hW⟩ rfl rfl hl.1 rfl (lv_room (Nat.le_of_ble_eq_true rfl)) dX0_transmit_20 ⟨(Nat.le_of_ble_eq_true rfl), (Nat.le_of_ble_eq_true rfl)⟩) hP hD hS hA ?_
      clear hP hD hS
      intro u_12 _ H locs hP hD hS
      replace hf := hf u_12
      generalize y_10 u_12 = ζ_11 at hf hP hD ⊢
      clear h_9
      replace hf := hf (fun _ => 0)
      refine lv_aload_n hx hb dX0_transmit_23 rfl (lv_at hl 0 rfl) ?_
      obtain ⟨ζ_14, h_13, hf⟩ := b1_some hf
      obtain ⟨ζ_15, e_ζ_15⟩ : ∃ x, x = (xmrg ζ_11.1 ζ_14, ζ_11.2) := ⟨_, rfl⟩
      refine run_rS (w := XW d z b ζ_11.1) (tl := ζ_11.2) (wr := [(b 17, .inr (18, [.int (ζ_11.1.1 70), .ref (b 18), .int (ζ_11.1.1 72)])), (b 18, .inl (d 4, 16, .inr (.inr (.inr (.inr (ζ_11.1.2.2.2.2 18)))))), (b 16, .inr (17, [.ref (b 19), .int (ζ_11.1.1 81), .int (ζ_11.1.1 82)])), (b 19, .inl (d 4, 17, .inr (.inr (.inr (.inr (ζ_11.1.2.2.2.2 19))))))]) (w' := fun _ => XW d z b ζ_15.1) (va_runV (As := []) (rest := []) S (tX0_here l D d z b (ζ_11.1.2.2.2.2 6 0) K ζ_11.1 ζ_14 h_13 _) (cwV 0 hts (lw_V q1093 q1095 qs30 q94 q1096) rfl rfl rfl (by decide +kernel) ⟨(Nat.le_of_ble_eq_true rfl), (Nat.le_of_ble_eq_true rfl)⟩) ⟨Pw.blind, (va_recv hK.1 hP (ci := 1) (q0 := 0) rfl rfl), fun U hU hW => Pw.cut (w := XW d z b ζ_11.1) (tl := ζ_11.2) hK hP hD hZ hS hA [0, 1, 2, 3, 4, 5, 6, 7, 8, 9, 10, 11, 12, 13, 14, 15] rfl rfl hU hW⟩ rfl rfl hl.1 rfl (lv_room (Nat.le_of_ble_eq_true rfl)) dX0_transmit_24 ⟨(Nat.le_of_ble_eq_true rfl), (Nat.le_of_ble_eq_true rfl)⟩) hP hD hS hA [0, 1, 2, 3, 4, 5, 6, 7, 8, 9, 10, 11, 12, 13, 14, 15] [16, 17, 18, 19] [4, 5, 6, 7, 8, 9, 10, 11, 12, 13, 14, 15, 16, 17, 18, 19, 0, 1, 2, 3] rfl rfl rfl rfl (by decide) rfl (fun _ => by subst e_ζ_15; rfl) ?_
      clear hP hD hS
      intro _ _ H locs hP hD hS
      rw [show ζ_11.2 = ζ_15.2 from by subst e_ζ_15; rfl] at hP hD
      clear h_13
      replace hf := nm_some hf ζ_15 e_ζ_15
      clear e_ζ_15
      obtain ⟨r_17, ζ_18, h_16, hf⟩ := b2_some hf
      obtain ⟨ζ_19, e_ζ_19⟩ : ∃ x, x = (xmrg ζ_15.1 ζ_18, ζ_15.2) := ⟨_, rfl⟩
      refine run_i (w := XW d z b ζ_15.1) (tl := ζ_15.2) (wr := [(b 17, .inr (18, [.int (ζ_15.1.1 70), .ref (b 18), .int (ζ_15.1.1 72)])), (b 18, .inl (d 4, 16, .inr (.inr (.inr (.inr (ζ_15.1.2.2.2.2 18)))))), (b 16, .inr (17, [.ref (b 19), .int (ζ_15.1.1 81), .int (ζ_15.1.1 82)])), (b 19, .inl (d 4, 17, .inr (.inr (.inr (.inr (ζ_15.1.2.2.2.2 19))))))]) (w' := XW d z b ζ_19.1) (va_runV (As := []) (rest := []) S (tX3_swr l D d z b (ζ_15.1.2.2.2.2 6 0) K ζ_15.1 r_17 ζ_18 h_16 _) (cwV 0 hts (lw_V q1119 q1120 q1121 q98 q1122) rfl rfl rfl (by decide +kernel) ⟨(Nat.le_of_ble_eq_true rfl), (Nat.le_of_ble_eq_true rfl)⟩) ⟨Pw.blind, (va_recv hK.1 hP (ci := 4) (q0 := 4) rfl rfl), fun U hU hW => Pw.cut (w := XW d z b ζ_15.1) (tl := ζ_15.2) hK hP hD hZ hS hA [0, 1, 2, 3, 4, 5, 6, 7, 8, 9, 10, 11, 12, 13, 14, 15] rfl rfl hU hW⟩ rfl rfl hl.1 rfl (lv_room (Nat.le_of_ble_eq_true rfl)) dX0_transmit_27 ⟨(Nat.le_of_ble_eq_true rfl), (Nat.le_of_ble_eq_true rfl)⟩) hP hD hS hA [0, 1, 2, 3, 4, 5, 6, 7, 8, 9, 10, 11, 12, 13, 14, 15] [16, 17, 18, 19] [4, 5, 6, 7, 8, 9, 10, 11, 12, 13, 14, 15, 16, 17, 18, 19, 0, 1, 2, 3] rfl rfl rfl rfl (by decide) rfl (by subst e_ζ_19; rfl) ?_
      clear hP hD hS
      intro H locs hP hD hS
      rw [show ζ_15.2 = ζ_19.2 from by subst e_ζ_19; rfl] at hP hD
      clear h_16
      replace hf := nm_some hf ζ_19 e_ζ_19
      clear e_ζ_19
      refine lv_istore_n (lv' := [(2, .int r_17), (0, .ref (b 0)), (1, .int p0)]) hx hb dX0_transmit_30 rfl hl (by decide) rfl (fun ls hl => ?_)
      refine lv_aload_n hx hb dX0_transmit_31 rfl (lv_at hl 1 rfl) ?_
      refine g_get hx hb hts S.2.2.2.1 hK hP in_X0 0 rfl rfl 5 (by decide) q286 (fun _ h9 => h9) (v := .ref (b 4)) rfl dX0_transmit_32 ?_
      obtain ⟨r_21, ζ_22, h_20, hf⟩ := b2_some hf
      obtain ⟨ζ_23, e_ζ_23⟩ : ∃ x, x = (xmrg ζ_19.1 ζ_22, ζ_19.2) := ⟨_, rfl⟩
      refine run_i (w := XW d z b ζ_19.1) (tl := ζ_19.2) (wr := [(b 17, .inr (18, [.int (ζ_19.1.1 70), .ref (b 18), .int (ζ_19.1.1 72)])), (b 18, .inl (d 4, 16, .inr (.inr (.inr (.inr (ζ_19.1.2.2.2.2 18)))))), (b 16, .inr (17, [.ref (b 19), .int (ζ_19.1.1 81), .int (ζ_19.1.1 82)])), (b 19, .inl (d 4, 17, .inr (.inr (.inr (.inr (ζ_19.1.2.2.2.2 19))))))]) (w' := XW d z b ζ_23.1) (va_runV (As := []) (rest := []) S (tX3_isOverloaded l D d z b (ζ_19.1.2.2.2.2 6 0) K ζ_19.1 r_21 ζ_22 h_20 _) (cwV 0 hts (lw_V q1209 q1210 q1211 q98 q1212) rfl rfl rfl (by decide +kernel) ⟨(Nat.le_of_ble_eq_true rfl), (Nat.le_of_ble_eq_true rfl)⟩) ⟨Pw.blind, (va_recv hK.1 hP (ci := 4) (q0 := 4) rfl rfl), fun U hU hW => Pw.cut (w := XW d z b ζ_19.1) (tl := ζ_19.2) hK hP hD hZ hS hA [0, 1, 2, 3, 4, 5, 6, 7, 8, 9, 10, 11, 12, 13, 14, 15] rfl rfl hU hW⟩ rfl rfl hl.1 rfl (lv_room (Nat.le_of_ble_eq_true rfl)) dX0_transmit_35 ⟨(Nat.le_of_ble_eq_true rfl), (Nat.le_of_ble_eq_true rfl)⟩) hP hD hS hA [0, 1, 2, 3, 4, 5, 6, 7, 8, 9, 10, 11, 12, 13, 14, 15] [16, 17, 18, 19] [4, 5, 6, 7, 8, 9, 10, 11, 12, 13, 14, 15, 16, 17, 18, 19, 0, 1, 2, 3] rfl rfl rfl rfl (by decide) rfl (by subst e_ζ_23; rfl) ?_
      clear hP hD hS
      intro H locs hP hD hS
      rw [show ζ_19.2 = ζ_23.2 from by subst e_ζ_23; rfl] at hP hD
      clear h_20
      replace hf := nm_some hf ζ_23 e_ζ_23
      clear e_ζ_23
      refine lv_istore_n (lv' := [(3, .int (bi r_21)), (2, .int r_17), (0, .ref (b 0)), (1, .int p0)]) hx hb dX0_transmit_38 rfl hl (by decide) rfl (fun ls hl => ?_)
      refine lv_iconst (v := 0) hx hb dX0_transmit_39 (by decide) ?_
      refine lv_istore (lv' := [(4, .int (0 : Int32)), (3, .int (bi r_21)), (2, .int r_17), (0, .ref (b 0)), (1, .int p0)]) hx hb dX0_transmit_40 hl (by decide) rfl (fun ls hl => ?_)
      refine lv_iconst (v := 0) hx hb dX0_transmit_42 (by decide) ?_
      refine lv_istore (lv' := [(5, .int (0 : Int32)), (4, .int (0 : Int32)), (3, .int (bi r_21)), (2, .int r_17), (0, .ref (b 0)), (1, .int p0)]) hx hb dX0_transmit_43 hl (by decide) rfl (fun ls hl => ?_)
      exact L45 K p0 r_17 (bi r_21) (0 : Int32) (0 : Int32) ζ_23 _ _ _ _ hf hP hD hS (lv_sub hl [4, 5, 3, 2, 1, 0] rfl)
    · replace hf := itU_f hf (bi_e0 c_8)
      clear c_8
      replace hf := hf (fun _ => 0)
      refine lv_iconst (v := -1) hx hb dX0_transmit_17 (by decide) ?_
      refine W.widen (k := 5) (n := 227) (Nat.le_of_ble_eq_true rfl) (Nat.le_of_ble_eq_true rfl) ?_
      exact hret _ _ _ _ _ _ _ hf dX0_transmit_18 hP hD hS
noncomputable def fX0_isSuitable (K : Nat) (o0 : Nat) (p0 : Int32 × Int32 × Int32) (μ : XT) : Option (Bool × XT) :=
  b1 (fX6_bandOf K (μ.1.1 60) μ.1) fun r_2 =>
  if r_2 = (-2 : Int32) then
    some (false, μ)
  else
    b1 (fX6_bandOf K p0.1 μ.1) fun r_5 =>
    if r_5 = r_2 then
      some (true, μ)
    else
      some (false, μ)
set_option maxHeartbeats 4000000 in
set_option maxRecDepth 100000 in
theorem tX0_isSuitable (l : Launch) (D : va_G) (d : Nat → ClassId) (z : ZT) (b : Nat → Nat) (K : Nat) (o0 : Nat) (p0 : Int32 × Int32 × Int32) (μ : XT) (r : Bool) (μ' : XT) (hf : fX0_isSuitable K o0 p0 μ = some (r, μ')) (he0 : (o0, (.inr (16, [.int p0.1, .int p0.2.1, .int p0.2.2]) : va_E)) ∈ μ.2) : CI l yX0_isSuitable (ws_ yX0_isSuitable cX0_isSuitable 3 (Option.some Jvm.ClassFile.FieldType.boolean)) (rmc 2 0 0 44) D d z [.ref (b 0), .ref o0] (XW d z b μ.1 ++ μ.2) (bi r) (XW d z b μ'.1 ++ μ'.2) := by
  refine CI.of2 (own := RX0) rfl (by decide) (Nat.le_of_ble_eq_true rfl) (bi_nar r) ?_
  intro p e s m args below meth c A Q ls S hin hK hP hD hZ hS hA hl hret0
  have hret : ∀ (x : Bool) (μx : XT) (H : Heap) (locs : List Loc) (pc : Nat) (ls' : Array Slot), some (x, μx) = some (r, μ') → decode cX0_isSuitable pc = .ok (.ireturn, 1) → va_P D CL (XW d z b μx.1 ++ μx.2) H → va_D A (XW d z b μx.1 ++ μx.2) → va_S A s.heap H locs → W p l e (rmc 2 0 0 44) s m args below meth c H locs 0 0 Q (F0 m pc ls' [.int (bi x)]) := by
    intro x μx H locs pc ls' h9 hdg hP hD hS
    obtain ⟨rfl, rfl⟩ := so_2 h9
    exact hret0 H locs pc ls' hdg hP hD hS
  have hx := S.1
  have hb := S.2.1
  have hts := S.2.2.2.2
  have hl : lv_has ls 3 [(0, .ref (b 0)), (1, .ref o0)] := hl
  unfold fX0_isSuitable at hf
  refine lv_aload_n hx hb dX0_isSuitable_0 rfl (lv_at hl 0 rfl) ?_
  refine g_get hx hb hts S.2.2.2.1 hK hP in_X0 0 rfl rfl 7 (by decide) q291 (fun _ h9 => h9) (v := .ref (b 7)) rfl dX0_isSuitable_1 ?_
  refine lv_aload_n hx hb dX0_isSuitable_4 rfl (lv_at hl 0 rfl) ?_
  refine g_get hx hb hts S.2.2.2.1 hK hP in_X0 0 rfl rfl 8 (by decide) q293 (fun _ h9 => h9) (v := .ref (b 13)) rfl dX0_isSuitable_5 ?_
  refine g_getN hx hb hts S.2.2.2.1 hK hP in_X8 13 rfl rfl 0 (by decide) q810 (fun _ h9 => h9) (v := .int (μ.1.1 60)) rfl dX0_isSuitable_8 ?_
  obtain ⟨r_2, h_1, hf⟩ := b1_some hf
  refine run_i (w := XW d z b μ.1) (tl := μ.2) (wr := [(b 0, .inr (1, [.ref (b 1), .int (μ.1.1 1), .int (μ.1.1 2), .ref (b 2), .ref (b 3), .ref (b 4), va_rf (μ.1.2.2.2.2 6 0), .ref (b 7), .ref (b 13), .ref (b 16), .int (μ.1.1 10)])), (b 1, .inl (d 2, 500, .inl (μ.1.2.2.1 1))), (b 2, .inl (d 5, 2, .inr (.inr (.inr (.inr (fun j => some (z.2.2 j))))))), (b 3, .inl (d 6, 5, .inr (.inr (.inr (.inr (fun j => some (z.2.2 (2 + j)))))))), (b 4, .inr (4, [.int (μ.1.1 20), .long (μ.1.2.1 21), .long (μ.1.2.1 22), .long (μ.1.2.1 23), .ref (b 5), .ref (b 6), .ref (b 0)])), (b 5, .inr (2, [.long (μ.1.2.1 30), .long (μ.1.2.1 31)])), (b 6, .inr (2, [.long (μ.1.2.1 32), .long (μ.1.2.1 33)])), (b 13, .inr (8, [.int (μ.1.1 60), .int (μ.1.1 61), .int (μ.1.1 62), .int (μ.1.1 63), .ref (b 14), .ref (b 15), .int (μ.1.1 66), .ref (b 17)])), (b 14, .inl (d 0, 100, .inl (μ.1.2.2.1 64))), (b 15, .inl (d 3, 100, .inl (μ.1.2.2.1 65))), (b 17, .inr (18, [.int (μ.1.1 70), .ref (b 18), .int (μ.1.1 72)])), (b 18, .inl (d 4, 16, .inr (.inr (.inr (.inr (μ.1.2.2.2.2 18)))))), (b 16, .inr (17, [.ref (b 19), .int (μ.1.1 81), .int (μ.1.1 82)])), (b 19, .inl (d 4, 17, .inr (.inr (.inr (.inr (μ.1.2.2.2.2 19))))))]) (w' := XW d z b μ.1) (va_runV (As := [.int (μ.1.1 60)]) (rest := []) S (tX6_bandOf l D d z b K (μ.1.1 60) μ.1 r_2 h_1 _) (cwV 1 hts (lw_V q890 q891 q892 q103 q893) rfl rfl rfl (by decide +kernel) ⟨(Nat.le_of_ble_eq_true rfl), (Nat.le_of_ble_eq_true rfl)⟩) ⟨Pw.blind, (va_recv hK.1 hP (ci := 6) (q0 := 7) rfl rfl), fun U hU hW => Pw.cut (w := XW d z b μ.1) (tl := μ.2) hK hP hD hZ hS hA [7, 8, 9, 10, 11, 12] rfl rfl hU hW⟩ rfl rfl hl.1 rfl (lv_room (Nat.le_of_ble_eq_true rfl)) dX0_isSuitable_11 ⟨(Nat.le_of_ble_eq_true rfl), (Nat.le_of_ble_eq_true rfl)⟩) hP hD hS hA [7, 8, 9, 10, 11, 12] [0, 1, 2, 3, 4, 5, 6, 13, 14, 15, 16, 17, 18, 19] [0, 1, 2, 3, 4, 5, 6, 14, 15, 16, 17, 18, 19, 7, 8, 9, 10, 11, 12, 13] rfl rfl rfl rfl (by decide) rfl rfl ?_
  clear hP hD hS
  intro H locs hP hD hS
  clear h_1
  refine lv_istore_n (lv' := [(2, .int r_2), (0, .ref (b 0)), (1, .ref o0)]) hx hb dX0_isSuitable_14 rfl hl (by decide) rfl (fun ls hl => ?_)
  refine lv_iload_n hx hb dX0_isSuitable_15 rfl (lv_at hl 0 rfl) ?_
  refine lv_bipush (v := -2) hx hb dX0_isSuitable_16 (by decide) ?_
  refine lv_icmp_eq (tgt := 40) hx hb dX0_isSuitable_18 (by decide) (fun c_3 => ?_) (fun c_3 => ?_)
  · replace hf := it_t hf c_3
    clear c_3
    refine lv_iconst (v := 0) hx hb dX0_isSuitable_40 (by decide) ?_
    refine W.widen (k := 0) (n := 0) (Nat.le_of_ble_eq_true rfl) (Nat.le_of_ble_eq_true rfl) ?_
    exact hret _ _ _ _ _ _ hf dX0_isSuitable_41 hP hD hS
  · replace hf := it_f hf c_3
    clear c_3
    refine lv_aload_n hx hb dX0_isSuitable_21 rfl (lv_at hl 1 rfl) ?_
    refine g_get hx hb hts S.2.2.2.1 hK hP in_X0 0 rfl rfl 7 (by decide) q291 (fun _ h9 => h9) (v := .ref (b 7)) rfl dX0_isSuitable_22 ?_
    refine lv_aload_n hx hb dX0_isSuitable_25 rfl (lv_at hl 2 rfl) ?_
    refine g_getMN (tl := μ.2) hx hb hts S.2.2.2.1 hK hP in_X17 he0 rfl 0 (by decide) q1514 (fun _ h9 => h9) (v := .int p0.1) rfl dX0_isSuitable_26 ?_
    obtain ⟨r_5, h_4, hf⟩ := b1_some hf
    refine run_i (w := XW d z b μ.1) (tl := μ.2) (wr := [(b 0, .inr (1, [.ref (b 1), .int (μ.1.1 1), .int (μ.1.1 2), .ref (b 2), .ref (b 3), .ref (b 4), va_rf (μ.1.2.2.2.2 6 0), .ref (b 7), .ref (b 13), .ref (b 16), .int (μ.1.1 10)])), (b 1, .inl (d 2, 500, .inl (μ.1.2.2.1 1))), (b 2, .inl (d 5, 2, .inr (.inr (.inr (.inr (fun j => some (z.2.2 j))))))), (b 3, .inl (d 6, 5, .inr (.inr (.inr (.inr (fun j => some (z.2.2 (2 + j)))))))), (b 4, .inr (4, [.int (μ.1.1 20), .long (μ.1.2.1 21), .long (μ.1.2.1 22), .long (μ.1.2.1 23), .ref (b 5), .ref (b 6), .ref (b 0)])), (b 5, .inr (2, [.long (μ.1.2.1 30), .long (μ.1.2.1 31)])), (b 6, .inr (2, [.long (μ.1.2.1 32), .long (μ.1.2.1 33)])), (b 13, .inr (8, [.int (μ.1.1 60), .int (μ.1.1 61), .int (μ.1.1 62), .int (μ.1.1 63), .ref (b 14), .ref (b 15), .int (μ.1.1 66), .ref (b 17)])), (b 14, .inl (d 0, 100, .inl (μ.1.2.2.1 64))), (b 15, .inl (d 3, 100, .inl (μ.1.2.2.1 65))), (b 17, .inr (18, [.int (μ.1.1 70), .ref (b 18), .int (μ.1.1 72)])), (b 18, .inl (d 4, 16, .inr (.inr (.inr (.inr (μ.1.2.2.2.2 18)))))), (b 16, .inr (17, [.ref (b 19), .int (μ.1.1 81), .int (μ.1.1 82)])), (b 19, .inl (d 4, 17, .inr (.inr (.inr (.inr (μ.1.2.2.2.2 19))))))]) (w' := XW d z b μ.1) (va_runV (As := [.int p0.1]) (rest := []) S (tX6_bandOf l D d z b K p0.1 μ.1 r_5 h_4 _) (cwV 1 hts (lw_V q890 q891 q892 q103 q893) rfl rfl rfl (by decide +kernel) ⟨(Nat.le_of_ble_eq_true rfl), (Nat.le_of_ble_eq_true rfl)⟩) ⟨Pw.blind, (va_recv hK.1 hP (ci := 6) (q0 := 7) rfl rfl), fun U hU hW => Pw.cut (w := XW d z b μ.1) (tl := μ.2) hK hP hD hZ hS hA [7, 8, 9, 10, 11, 12] rfl rfl hU hW⟩ rfl rfl hl.1 rfl (lv_room (Nat.le_of_ble_eq_true rfl)) dX0_isSuitable_29 ⟨(Nat.le_of_ble_eq_true rfl), (Nat.le_of_ble_eq_true rfl)⟩) hP hD hS hA [7, 8, 9, 10, 11, 12] [0, 1, 2, 3, 4, 5, 6, 13, 14, 15, 16, 17, 18, 19] [0, 1, 2, 3, 4, 5, 6, 14, 15, 16, 17, 18, 19, 7, 8, 9, 10, 11, 12, 13] rfl rfl rfl rfl (by decide) rfl rfl ?_
    clear hP hD hS
    intro H locs hP hD hS
    clear h_4
    refine lv_iload_n hx hb dX0_isSuitable_32 rfl (lv_at hl 0 rfl) ?_
    refine lv_icmp_ne (tgt := 40) hx hb dX0_isSuitable_33 (by decide) (fun c_6 => ?_) (fun c_6 => ?_)
    · replace hf := it_f hf c_6
      clear c_6
      refine lv_iconst (v := 0) hx hb dX0_isSuitable_40 (by decide) ?_
      refine W.widen (k := 0) (n := 0) (Nat.le_of_ble_eq_true rfl) (Nat.le_of_ble_eq_true rfl) ?_
      exact hret _ _ _ _ _ _ hf dX0_isSuitable_41 hP hD hS
    · replace hf := it_t hf c_6
      clear c_6
      refine lv_iconst (v := 1) hx hb dX0_isSuitable_36 (by decide) ?_
      refine lv_goto (tgt := 41) hx hb dX0_isSuitable_37 (by decide) ?_
      refine W.widen (k := 0) (n := 0) (Nat.le_of_ble_eq_true rfl) (Nat.le_of_ble_eq_true rfl) ?_
      exact hret _ _ _ _ _ _ hf dX0_isSuitable_41 hP hD hS
noncomputable def fX0_distanceTo (K : Nat) (p0 : Int32) (μ : XT) : Option (Int32 × XT) :=
  b1 (fJ14_get K p0 (μ.1.1 70, μ.1.1 72, μ.1.2.2.2.2 18)) fun r_2 =>
  b1 (entOf μ.2 r_2) fun t_3 =>
  nm (if 0 ≤ (t_3.1 - (μ.1.1 60)) then (t_3.1 - (μ.1.1 60)) else 0 - (t_3.1 - (μ.1.1 60))) fun v_5 =>
  some (v_5, μ)
set_option maxHeartbeats 4000000 in
set_option maxRecDepth 100000 in
theorem tX0_distanceTo (l : Launch) (D : va_G) (d : Nat → ClassId) (z : ZT) (b : Nat → Nat) (K : Nat) (p0 : Int32) (μ : XT) (r : Int32) (μ' : XT) (hf : fX0_distanceTo K p0 μ = some (r, μ')) : CI l yX0_distanceTo (ws_ yX0_distanceTo cX0_distanceTo 2 (Option.some Jvm.ClassFile.FieldType.int)) (rmc 3 0 0 64) D d z [.ref (b 0), .int p0] (XW d z b μ.1 ++ μ.2) r (XW d z b μ'.1 ++ μ'.2) := by
  refine CI.of2 (own := RX0) rfl (by decide) (Nat.le_of_ble_eq_true rfl) rfl ?_
  intro p e s m args below meth c A Q ls S hin hK hP hD hZ hS hA hl hret0
  have hret : ∀ (x : Int32) (μx : XT) (H : Heap) (locs : List Loc) (pc : Nat) (ls' : Array Slot), some (x, μx) = some (r, μ') → decode cX0_distanceTo pc = .ok (.ireturn, 1) → va_P D CL (XW d z b μx.1 ++ μx.2) H → va_D A (XW d z b μx.1 ++ μx.2) → va_S A s.heap H locs → W p l e (rmc 3 0 0 64) s m args below meth c H locs 0 0 Q (F0 m pc ls' [.int x]) := by
    intro x μx H locs pc ls' h9 hdg hP hD hS
    obtain ⟨rfl, rfl⟩ := so_2 h9
    exact hret0 H locs pc ls' hdg hP hD hS
  have hx := S.1
  have hb := S.2.1
  have hts := S.2.2.2.2
  have hl : lv_has ls 2 [(0, .ref (b 0)), (1, .int p0)] := hl
  unfold fX0_distanceTo at hf
  refine lv_aload_n hx hb dX0_distanceTo_0 rfl (lv_at hl 0 rfl) ?_
  refine g_get hx hb hts S.2.2.2.1 hK hP in_X0 0 rfl rfl 8 (by decide) q293 (fun _ h9 => h9) (v := .ref (b 13)) rfl dX0_distanceTo_1 ?_
  refine g_getN hx hb hts S.2.2.2.1 hK hP in_X8 13 rfl rfl 7 (by decide) q823 (fun _ h9 => h9) (v := .ref (b 17)) rfl dX0_distanceTo_4 ?_
  refine lv_iload_n hx hb dX0_distanceTo_7 rfl (lv_at hl 1 rfl) ?_
  obtain ⟨r_2, h_1, hf⟩ := b1_some hf
  have hPc := toT_P (isC := [16, 17]) (isR := [0, 1, 2, 3, 4, 5, 6, 7, 8, 9, 10, 11, 12, 13, 14, 15, 18, 19]) (wc := ALP d (b 17) (b 18) (μ.1.1 70, μ.1.1 72, μ.1.2.2.2.2 18)) (wr := [(b 0, .inr (1, [.ref (b 1), .int (μ.1.1 1), .int (μ.1.1 2), .ref (b 2), .ref (b 3), .ref (b 4), va_rf (μ.1.2.2.2.2 6 0), .ref (b 7), .ref (b 13), .ref (b 16), .int (μ.1.1 10)])), (b 1, .inl (d 2, 500, .inl (μ.1.2.2.1 1))), (b 2, .inl (d 5, 2, .inr (.inr (.inr (.inr (fun j => some (z.2.2 j))))))), (b 3, .inl (d 6, 5, .inr (.inr (.inr (.inr (fun j => some (z.2.2 (2 + j)))))))), (b 4, .inr (4, [.int (μ.1.1 20), .long (μ.1.2.1 21), .long (μ.1.2.1 22), .long (μ.1.2.1 23), .ref (b 5), .ref (b 6), .ref (b 0)])), (b 5, .inr (2, [.long (μ.1.2.1 30), .long (μ.1.2.1 31)])), (b 6, .inr (2, [.long (μ.1.2.1 32), .long (μ.1.2.1 33)])), (b 7, .inr (6, [.int (μ.1.1 40), .int (μ.1.1 41), .int (μ.1.1 42), .int (μ.1.1 43), .int (μ.1.1 44), .int (μ.1.1 45), .ref (b 8), .ref (b 9), .ref (b 10), .int (μ.1.1 49), .ref (b 11), .ref (b 12), .int (μ.1.1 52)])), (b 8, .inl (d 0, 16, .inl (μ.1.2.2.1 46))), (b 9, .inl (d 1, 16, .inr (.inl (μ.1.2.2.2.1 47)))), (b 10, .inl (d 1, 16, .inr (.inl (μ.1.2.2.2.1 48)))), (b 11, .inl (d 0, 8, .inl (μ.1.2.2.1 50))), (b 12, .inl (d 0, 8, .inl (μ.1.2.2.1 51))), (b 13, .inr (8, [.int (μ.1.1 60), .int (μ.1.1 61), .int (μ.1.1 62), .int (μ.1.1 63), .ref (b 14), .ref (b 15), .int (μ.1.1 66), .ref (b 17)])), (b 14, .inl (d 0, 100, .inl (μ.1.2.2.1 64))), (b 15, .inl (d 3, 100, .inl (μ.1.2.2.1 65))), (b 16, .inr (17, [.ref (b 19), .int (μ.1.1 81), .int (μ.1.1 82)])), (b 19, .inl (d 4, 17, .inr (.inr (.inr (.inr (μ.1.2.2.2.2 19))))))]) (w := XW d z b μ.1) (tl := μ.2) hP rfl rfl
  have hDc := toT_D (isC := [16, 17]) (isR := [0, 1, 2, 3, 4, 5, 6, 7, 8, 9, 10, 11, 12, 13, 14, 15, 18, 19]) (wc := ALP d (b 17) (b 18) (μ.1.1 70, μ.1.1 72, μ.1.2.2.2.2 18)) (wr := [(b 0, .inr (1, [.ref (b 1), .int (μ.1.1 1), .int (μ.1.1 2), .ref (b 2), .ref (b 3), .ref (b 4), va_rf (μ.1.2.2.2.2 6 0), .ref (b 7), .ref (b 13), .ref (b 16), .int (μ.1.1 10)])), (b 1, .inl (d 2, 500, .inl (μ.1.2.2.1 1))), (b 2, .inl (d 5, 2, .inr (.inr (.inr (.inr (fun j => some (z.2.2 j))))))), (b 3, .inl (d 6, 5, .inr (.inr (.inr (.inr (fun j => some (z.2.2 (2 + j)))))))), (b 4, .inr (4, [.int (μ.1.1 20), .long (μ.1.2.1 21), .long (μ.1.2.1 22), .long (μ.1.2.1 23), .ref (b 5), .ref (b 6), .ref (b 0)])), (b 5, .inr (2, [.long (μ.1.2.1 30), .long (μ.1.2.1 31)])), (b 6, .inr (2, [.long (μ.1.2.1 32), .long (μ.1.2.1 33)])), (b 7, .inr (6, [.int (μ.1.1 40), .int (μ.1.1 41), .int (μ.1.1 42), .int (μ.1.1 43), .int (μ.1.1 44), .int (μ.1.1 45), .ref (b 8), .ref (b 9), .ref (b 10), .int (μ.1.1 49), .ref (b 11), .ref (b 12), .int (μ.1.1 52)])), (b 8, .inl (d 0, 16, .inl (μ.1.2.2.1 46))), (b 9, .inl (d 1, 16, .inr (.inl (μ.1.2.2.2.1 47)))), (b 10, .inl (d 1, 16, .inr (.inl (μ.1.2.2.2.1 48)))), (b 11, .inl (d 0, 8, .inl (μ.1.2.2.1 50))), (b 12, .inl (d 0, 8, .inl (μ.1.2.2.1 51))), (b 13, .inr (8, [.int (μ.1.1 60), .int (μ.1.1 61), .int (μ.1.1 62), .int (μ.1.1 63), .ref (b 14), .ref (b 15), .int (μ.1.1 66), .ref (b 17)])), (b 14, .inl (d 0, 100, .inl (μ.1.2.2.1 64))), (b 15, .inl (d 3, 100, .inl (μ.1.2.2.1 65))), (b 16, .inr (17, [.ref (b 19), .int (μ.1.1 81), .int (μ.1.1 82)])), (b 19, .inl (d 4, 17, .inr (.inr (.inr (.inr (μ.1.2.2.2.2 19))))))]) (w := XW d z b μ.1) (tl := μ.2) hD rfl rfl rfl
  refine runW_rS (va_runV (As := [.int p0]) (rest := []) S (tJ14_get l D d z (b 17) (b 18) ([(b 0, .inr (1, [.ref (b 1), .int (μ.1.1 1), .int (μ.1.1 2), .ref (b 2), .ref (b 3), .ref (b 4), va_rf (μ.1.2.2.2.2 6 0), .ref (b 7), .ref (b 13), .ref (b 16), .int (μ.1.1 10)])), (b 1, .inl (d 2, 500, .inl (μ.1.2.2.1 1))), (b 2, .inl (d 5, 2, .inr (.inr (.inr (.inr (fun j => some (z.2.2 j))))))), (b 3, .inl (d 6, 5, .inr (.inr (.inr (.inr (fun j => some (z.2.2 (2 + j)))))))), (b 4, .inr (4, [.int (μ.1.1 20), .long (μ.1.2.1 21), .long (μ.1.2.1 22), .long (μ.1.2.1 23), .ref (b 5), .ref (b 6), .ref (b 0)])), (b 5, .inr (2, [.long (μ.1.2.1 30), .long (μ.1.2.1 31)])), (b 6, .inr (2, [.long (μ.1.2.1 32), .long (μ.1.2.1 33)])), (b 7, .inr (6, [.int (μ.1.1 40), .int (μ.1.1 41), .int (μ.1.1 42), .int (μ.1.1 43), .int (μ.1.1 44), .int (μ.1.1 45), .ref (b 8), .ref (b 9), .ref (b 10), .int (μ.1.1 49), .ref (b 11), .ref (b 12), .int (μ.1.1 52)])), (b 8, .inl (d 0, 16, .inl (μ.1.2.2.1 46))), (b 9, .inl (d 1, 16, .inr (.inl (μ.1.2.2.2.1 47)))), (b 10, .inl (d 1, 16, .inr (.inl (μ.1.2.2.2.1 48)))), (b 11, .inl (d 0, 8, .inl (μ.1.2.2.1 50))), (b 12, .inl (d 0, 8, .inl (μ.1.2.2.1 51))), (b 13, .inr (8, [.int (μ.1.1 60), .int (μ.1.1 61), .int (μ.1.1 62), .int (μ.1.1 63), .ref (b 14), .ref (b 15), .int (μ.1.1 66), .ref (b 17)])), (b 14, .inl (d 0, 100, .inl (μ.1.2.2.1 64))), (b 15, .inl (d 3, 100, .inl (μ.1.2.2.1 65))), (b 16, .inr (17, [.ref (b 19), .int (μ.1.1 81), .int (μ.1.1 82)])), (b 19, .inl (d 4, 17, .inr (.inr (.inr (.inr (μ.1.2.2.2.2 19))))))] ++ μ.2) K p0 (μ.1.1 70, μ.1.1 72, μ.1.2.2.2.2 18) r_2 h_1 _) (cwV 1 hts (lw_V q1393 q942 q943 q118 q944) rfl rfl rfl (by decide +kernel) ⟨(Nat.le_of_ble_eq_true rfl), (Nat.le_of_ble_eq_true rfl)⟩) ⟨Pw.blind, (va_recv hK.1 hP (ci := 18) (q0 := 16) rfl rfl), fun U hU hW => Pw.at hK hPc hDc hZ hS hA hU hW⟩ rfl rfl hl.1 rfl (lv_room (Nat.le_of_ble_eq_true rfl)) dX0_distanceTo_8 ⟨(Nat.le_of_ble_eq_true rfl), (Nat.le_of_ble_eq_true rfl)⟩) hPc hDc hS hA ?_
  clear hP hD hS hPc hDc
  intro _ _ H locs hP hD hS
  replace hP := ofT_P (perm := [2, 3, 4, 5, 6, 7, 8, 9, 10, 11, 12, 13, 14, 15, 16, 17, 0, 1, 18, 19]) (w' := XW d z b μ.1) hP rfl
  replace hD := ofT_D (perm := [2, 3, 4, 5, 6, 7, 8, 9, 10, 11, 12, 13, 14, 15, 16, 17, 0, 1, 18, 19]) (w' := XW d z b μ.1) hD rfl rfl
  clear h_1
  obtain ⟨t_3, m_4, hf⟩ := b1_some hf
  replace m_4 := entOf_mem m_4
  refine g_castM hx hb hts S.2.2.2.1 hK hP (ci := 16) rfl (List.mem_append_right _ m_4) q1394 dX0_distanceTo_11 ?_
  refine g_getMN (tl := μ.2) hx hb hts S.2.2.2.1 hK hP in_X17 m_4 rfl 0 (by decide) q1514 (fun _ h9 => h9) (v := .int t_3.1) rfl dX0_distanceTo_14 ?_
  refine lv_aload_n hx hb dX0_distanceTo_17 rfl (lv_at hl 0 rfl) ?_
  refine g_get hx hb hts S.2.2.2.1 hK hP in_X0 0 rfl rfl 8 (by decide) q293 (fun _ h9 => h9) (v := .ref (b 13)) rfl dX0_distanceTo_18 ?_
  refine g_getN hx hb hts S.2.2.2.1 hK hP in_X8 13 rfl rfl 0 (by decide) q810 (fun _ h9 => h9) (v := .int (μ.1.1 60)) rfl dX0_distanceTo_21 ?_
  refine lv_isub hx hb dX0_distanceTo_24 ?_
  refine va_mabs hx hb (S.2.2.1.trans hl.1.symm) S.2.2.2.1 (hts _ q1403) (hts _ q1404) (hts _ q96) (hts _ q1405) (Nat.le_of_ble_eq_true rfl) (Nat.le_of_ble_eq_true rfl) (Nat.le_of_ble_eq_true rfl) (Nat.le_of_ble_eq_true rfl) dX0_distanceTo_25 ?_
  refine lv_topi (fun v_5 e_ => ?_)
  replace hf := nm_some hf v_5 e_
  clear e_
  refine W.widen (k := 0) (n := 0) (Nat.le_of_ble_eq_true rfl) (Nat.le_of_ble_eq_true rfl) ?_
  exact hret _ _ _ _ _ _ hf dX0_distanceTo_28 hP hD hS
noncomputable def fX0_placeOf_L2 (K : Nat) : Nat → Int32 → Int32 → XT → Option (Int32 × XT)
  | 0, _, _, _ => none
  | n + 1, x2_1, x2_2, μ2 =>
    b1 (fJ14_size K (μ2.1.1 70, μ2.1.1 72, μ2.1.2.2.2.2 18)) fun r_2 =>
    if r_2 ≤ x2_2 then
      some (x2_2, μ2)
    else
      b1 (fJ14_get K x2_2 (μ2.1.1 70, μ2.1.1 72, μ2.1.2.2.2.2 18)) fun r_5 =>
      b1 (entOf μ2.2 r_5) fun t_6 =>
      if x2_1 ≤ t_6.1 then
        some (x2_2, μ2)
      else
        fX0_placeOf_L2 K n x2_1 (x2_2 + (1 : Int32)) μ2
noncomputable def fX0_placeOf (K : Nat) (p0 : Int32) (μ : XT) : Option (Int32 × XT) :=
  fX0_placeOf_L2 K K p0 (0 : Int32) μ
set_option maxHeartbeats 4000000 in
set_option maxRecDepth 100000 in
theorem tX0_placeOf (l : Launch) (D : va_G) (d : Nat → ClassId) (z : ZT) (b : Nat → Nat) (K : Nat) (p0 : Int32) (μ : XT) (r : Int32) (μ' : XT) (hf : fX0_placeOf K p0 μ = some (r, μ')) : CI l yX0_placeOf (ws_ yX0_placeOf cX0_placeOf 3 (Option.some Jvm.ClassFile.FieldType.int)) (rmc 3 0 0 64) D d z [.ref (b 0), .int p0] (XW d z b μ.1 ++ μ.2) r (XW d z b μ'.1 ++ μ'.2) := by
  refine CI.of2 (own := RX0) rfl (by decide) (Nat.le_of_ble_eq_true rfl) rfl ?_
  intro p e s m args below meth c A Q ls S hin hK hP hD hZ hS hA hl hret0
  have hret : ∀ (x : Int32) (μx : XT) (H : Heap) (locs : List Loc) (pc : Nat) (ls' : Array Slot), some (x, μx) = some (r, μ') → decode cX0_placeOf pc = .ok (.ireturn, 1) → va_P D CL (XW d z b μx.1 ++ μx.2) H → va_D A (XW d z b μx.1 ++ μx.2) → va_S A s.heap H locs → W p l e (rmc 3 0 0 64) s m args below meth c H locs 0 0 Q (F0 m pc ls' [.int x]) := by
    intro x μx H locs pc ls' h9 hdg hP hD hS
    obtain ⟨rfl, rfl⟩ := so_2 h9
    exact hret0 H locs pc ls' hdg hP hD hS
  have hx := S.1
  have hb := S.2.1
  have hts := S.2.2.2.2
  have hl : lv_has ls 3 [(0, .ref (b 0)), (1, .int p0)] := hl
  have L2 : ∀ (n : Nat) (x2_1 : Int32) (x2_2 : Int32) (μ2 : XT) (H : Heap) (locs : List Loc) (ls : Array Slot), fX0_placeOf_L2 K n x2_1 x2_2 μ2 = some (r, μ') → va_P D CL (XW d z b μ2.1 ++ μ2.2) H → va_D A (XW d z b μ2.1 ++ μ2.2) → va_S A s.heap H locs → lv_has ls 3 [(0, .ref (b 0)), (1, .int x2_1), (2, .int x2_2)] → W p l e (rmc 3 0 0 64) s m args below meth c H locs 0 0 Q (F0 m 2 ls []) := by
    intro n
    induction n with
    | zero =>
      intro x2_1 x2_2 μ2 H locs ls hf hP hD hS hl
      rw [fX0_placeOf_L2] at hf
      cases hf
    | succ n ih =>
      intro x2_1 x2_2 μ2 H locs ls hf hP hD hS hl
      rw [fX0_placeOf_L2] at hf
      refine lv_iload_n hx hb dX0_placeOf_2 rfl (lv_at hl 2 rfl) ?_
      refine lv_aload_n hx hb dX0_placeOf_3 rfl (lv_at hl 0 rfl) ?_
      refine g_get hx hb hts S.2.2.2.1 hK hP in_X0 0 rfl rfl 8 (by decide) q293 (fun _ h9 => h9) (v := .ref (b 13)) rfl dX0_placeOf_4 ?_
      refine g_getN hx hb hts S.2.2.2.1 hK hP in_X8 13 rfl rfl 7 (by decide) q823 (fun _ h9 => h9) (v := .ref (b 17)) rfl dX0_placeOf_7 ?_
      obtain ⟨r_2, h_1, hf⟩ := b1_some hf
      have hPc := toT_P (isC := [16, 17]) (isR := [0, 1, 2, 3, 4, 5, 6, 7, 8, 9, 10, 11, 12, 13, 14, 15, 18, 19]) (wc := ALP d (b 17) (b 18) (μ2.1.1 70, μ2.1.1 72, μ2.1.2.2.2.2 18)) (wr := [(b 0, .inr (1, [.ref (b 1), .int (μ2.1.1 1), .int (μ2.1.1 2), .ref (b 2), .ref (b 3), .ref (b 4), va_rf (μ2.1.2.2.2.2 6 0), .ref (b 7), .ref (b 13), .ref (b 16), .int (μ2.1.1 10)])), (b 1, .inl (d 2, 500, .inl (μ2.1.2.2.1 1))), (b 2, .inl (d 5, 2, .inr (.inr (.inr (.inr (fun j => some (z.2.2 j))))))), (b 3, .inl (d 6, 5, .inr (.inr (.inr (.inr (fun j => some (z.2.2 (2 + j)))))))), (b 4, .inr (4, [.int (μ2.1.1 20), .long (μ2.1.2.1 21), .long (μ2.1.2.1 22), .long (μ2.1.2.1 23), .ref (b 5), .ref (b 6), .ref (b 0)])), (b 5, .inr (2, [.long (μ2.1.2.1 30), .long (μ2.1.2.1 31)])), (b 6, .inr (2, [.long (μ2.1.2.1 32), .long (μ2.1.2.1 33)])), (b 7, .inr (6, [.int (μ2.1.1 40), .int (μ2.1.1 41), .int (μ2.1.1 42), .int (μ2.1.1 43), .int (μ2.1.1 44), .int (μ2.1.1 45), .ref (b 8), .ref (b 9), .ref (b 10), .int (μ2.1.1 49), .ref (b 11), .ref (b 12), .int (μ2.1.1 52)])), (b 8, .inl (d 0, 16, .inl (μ2.1.2.2.1 46))), (b 9, .inl (d 1, 16, .inr (.inl (μ2.1.2.2.2.1 47)))), (b 10, .inl (d 1, 16, .inr (.inl (μ2.1.2.2.2.1 48)))), (b 11, .inl (d 0, 8, .inl (μ2.1.2.2.1 50))), (b 12, .inl (d 0, 8, .inl (μ2.1.2.2.1 51))), (b 13, .inr (8, [.int (μ2.1.1 60), .int (μ2.1.1 61), .int (μ2.1.1 62), .int (μ2.1.1 63), .ref (b 14), .ref (b 15), .int (μ2.1.1 66), .ref (b 17)])), (b 14, .inl (d 0, 100, .inl (μ2.1.2.2.1 64))), (b 15, .inl (d 3, 100, .inl (μ2.1.2.2.1 65))), (b 16, .inr (17, [.ref (b 19), .int (μ2.1.1 81), .int (μ2.1.1 82)])), (b 19, .inl (d 4, 17, .inr (.inr (.inr (.inr (μ2.1.2.2.2.2 19))))))]) (w := XW d z b μ2.1) (tl := μ2.2) hP rfl rfl
      have hDc := toT_D (isC := [16, 17]) (isR := [0, 1, 2, 3, 4, 5, 6, 7, 8, 9, 10, 11, 12, 13, 14, 15, 18, 19]) (wc := ALP d (b 17) (b 18) (μ2.1.1 70, μ2.1.1 72, μ2.1.2.2.2.2 18)) (wr := [(b 0, .inr (1, [.ref (b 1), .int (μ2.1.1 1), .int (μ2.1.1 2), .ref (b 2), .ref (b 3), .ref (b 4), va_rf (μ2.1.2.2.2.2 6 0), .ref (b 7), .ref (b 13), .ref (b 16), .int (μ2.1.1 10)])), (b 1, .inl (d 2, 500, .inl (μ2.1.2.2.1 1))), (b 2, .inl (d 5, 2, .inr (.inr (.inr (.inr (fun j => some (z.2.2 j))))))), (b 3, .inl (d 6, 5, .inr (.inr (.inr (.inr (fun j => some (z.2.2 (2 + j)))))))), (b 4, .inr (4, [.int (μ2.1.1 20), .long (μ2.1.2.1 21), .long (μ2.1.2.1 22), .long (μ2.1.2.1 23), .ref (b 5), .ref (b 6), .ref (b 0)])), (b 5, .inr (2, [.long (μ2.1.2.1 30), .long (μ2.1.2.1 31)])), (b 6, .inr (2, [.long (μ2.1.2.1 32), .long (μ2.1.2.1 33)])), (b 7, .inr (6, [.int (μ2.1.1 40), .int (μ2.1.1 41), .int (μ2.1.1 42), .int (μ2.1.1 43), .int (μ2.1.1 44), .int (μ2.1.1 45), .ref (b 8), .ref (b 9), .ref (b 10), .int (μ2.1.1 49), .ref (b 11), .ref (b 12), .int (μ2.1.1 52)])), (b 8, .inl (d 0, 16, .inl (μ2.1.2.2.1 46))), (b 9, .inl (d 1, 16, .inr (.inl (μ2.1.2.2.2.1 47)))), (b 10, .inl (d 1, 16, .inr (.inl (μ2.1.2.2.2.1 48)))), (b 11, .inl (d 0, 8, .inl (μ2.1.2.2.1 50))), (b 12, .inl (d 0, 8, .inl (μ2.1.2.2.1 51))), (b 13, .inr (8, [.int (μ2.1.1 60), .int (μ2.1.1 61), .int (μ2.1.1 62), .int (μ2.1.1 63), .ref (b 14), .ref (b 15), .int (μ2.1.1 66), .ref (b 17)])), (b 14, .inl (d 0, 100, .inl (μ2.1.2.2.1 64))), (b 15, .inl (d 3, 100, .inl (μ2.1.2.2.1 65))), (b 16, .inr (17, [.ref (b 19), .int (μ2.1.1 81), .int (μ2.1.1 82)])), (b 19, .inl (d 4, 17, .inr (.inr (.inr (.inr (μ2.1.2.2.2.2 19))))))]) (w := XW d z b μ2.1) (tl := μ2.2) hD rfl rfl rfl
      refine runW_i (va_runV (As := []) (rest := [.int x2_2]) S (tJ14_size l D d z (b 17) (b 18) ([(b 0, .inr (1, [.ref (b 1), .int (μ2.1.1 1), .int (μ2.1.1 2), .ref (b 2), .ref (b 3), .ref (b 4), va_rf (μ2.1.2.2.2.2 6 0), .ref (b 7), .ref (b 13), .ref (b 16), .int (μ2.1.1 10)])), (b 1, .inl (d 2, 500, .inl (μ2.1.2.2.1 1))), (b 2, .inl (d 5, 2, .inr (.inr (.inr (.inr (fun j => some (z.2.2 j))))))), (b 3, .inl (d 6, 5, .inr (.inr (.inr (.inr (fun j => some (z.2.2 (2 + j)))))))), (b 4, .inr (4, [.int (μ2.1.1 20), .long (μ2.1.2.1 21), .long (μ2.1.2.1 22), .long (μ2.1.2.1 23), .ref (b 5), .ref (b 6), .ref (b 0)])), (b 5, .inr (2, [.long (μ2.1.2.1 30), .long (μ2.1.2.1 31)])), (b 6, .inr (2, [.long (μ2.1.2.1 32), .long (μ2.1.2.1 33)])), (b 7, .inr (6, [.int (μ2.1.1 40), .int (μ2.1.1 41), .int (μ2.1.1 42), .int (μ2.1.1 43), .int (μ2.1.1 44), .int (μ2.1.1 45), .ref (b 8), .ref (b 9), .ref (b 10), .int (μ2.1.1 49), .ref (b 11), .ref (b 12), .int (μ2.1.1 52)])), (b 8, .inl (d 0, 16, .inl (μ2.1.2.2.1 46))), (b 9, .inl (d 1, 16, .inr (.inl (μ2.1.2.2.2.1 47)))), (b 10, .inl (d 1, 16, .inr (.inl (μ2.1.2.2.2.1 48)))), (b 11, .inl (d 0, 8, .inl (μ2.1.2.2.1 50))), (b 12, .inl (d 0, 8, .inl (μ2.1.2.2.1 51))), (b 13, .inr (8, [.int (μ2.1.1 60), .int (μ2.1.1 61), .int (μ2.1.1 62), .int (μ2.1.1 63), .ref (b 14), .ref (b 15), .int (μ2.1.1 66), .ref (b 17)])), (b 14, .inl (d 0, 100, .inl (μ2.1.2.2.1 64))), (b 15, .inl (d 3, 100, .inl (μ2.1.2.2.1 65))), (b 16, .inr (17, [.ref (b 19), .int (μ2.1.1 81), .int (μ2.1.1 82)])), (b 19, .inl (d 4, 17, .inr (.inr (.inr (.inr (μ2.1.2.2.2.2 19))))))] ++ μ2.2) K (μ2.1.1 70, μ2.1.1 72, μ2.1.2.2.2.2 18) r_2 h_1 _) (cwV 0 hts (lw_V q1392 q938 q939 q118 q940) rfl rfl rfl (by decide +kernel) ⟨(Nat.le_of_ble_eq_true rfl), (Nat.le_of_ble_eq_true rfl)⟩) ⟨Pw.blind, (va_recv hK.1 hP (ci := 18) (q0 := 16) rfl rfl), fun U hU hW => Pw.at hK hPc hDc hZ hS hA hU hW⟩ rfl rfl hl.1 rfl (lv_room (Nat.le_of_ble_eq_true rfl)) dX0_placeOf_10 ⟨(Nat.le_of_ble_eq_true rfl), (Nat.le_of_ble_eq_true rfl)⟩) hPc hDc hS hA ?_
      clear hP hD hS hPc hDc
      intro H locs hP hD hS
      replace hP := ofT_P (perm := [2, 3, 4, 5, 6, 7, 8, 9, 10, 11, 12, 13, 14, 15, 16, 17, 0, 1, 18, 19]) (w' := XW d z b μ2.1) hP rfl
      replace hD := ofT_D (perm := [2, 3, 4, 5, 6, 7, 8, 9, 10, 11, 12, 13, 14, 15, 16, 17, 0, 1, 18, 19]) (w' := XW d z b μ2.1) hD rfl rfl
      clear h_1
      refine lv_icmp_ge (tgt := 43) hx hb dX0_placeOf_13 (by decide) (fun c_3 => ?_) (fun c_3 => ?_)
      · replace hf := it_t hf c_3
        clear c_3
        refine lv_iload_n hx hb dX0_placeOf_43 rfl (lv_at hl 2 rfl) ?_
        refine W.widen (k := 0) (n := 0) (Nat.le_of_ble_eq_true rfl) (Nat.le_of_ble_eq_true rfl) ?_
        exact hret _ _ _ _ _ _ hf dX0_placeOf_44 hP hD hS
      · replace hf := it_f hf c_3
        clear c_3
        refine lv_aload_n hx hb dX0_placeOf_16 rfl (lv_at hl 0 rfl) ?_
        refine g_get hx hb hts S.2.2.2.1 hK hP in_X0 0 rfl rfl 8 (by decide) q293 (fun _ h9 => h9) (v := .ref (b 13)) rfl dX0_placeOf_17 ?_
        refine g_getN hx hb hts S.2.2.2.1 hK hP in_X8 13 rfl rfl 7 (by decide) q823 (fun _ h9 => h9) (v := .ref (b 17)) rfl dX0_placeOf_20 ?_
        refine lv_iload_n hx hb dX0_placeOf_23 rfl (lv_at hl 2 rfl) ?_
        obtain ⟨r_5, h_4, hf⟩ := b1_some hf
        have hPc := toT_P (isC := [16, 17]) (isR := [0, 1, 2, 3, 4, 5, 6, 7, 8, 9, 10, 11, 12, 13, 14, 15, 18, 19]) (wc := ALP d (b 17) (b 18) (μ2.1.1 70, μ2.1.1 72, μ2.1.2.2.2.2 18)) (wr := [(b 0, .inr (1, [.ref (b 1), .int (μ2.1.1 1), .int (μ2.1.1 2), .ref (b 2), .ref (b 3), .ref (b 4), va_rf (μ2.1.2.2.2.2 6 0), .ref (b 7), .ref (b 13), .ref (b 16), .int (μ2.1.1 10)])), (b 1, .inl (d 2, 500, .inl (μ2.1.2.2.1 1))), (b 2, .inl (d 5, 2, .inr (.inr (.inr (.inr (fun j => some (z.2.2 j))))))), (b 3, .inl (d 6, 5, .inr (.inr (.inr (.inr (fun j => some (z.2.2 (2 + j)))))))), (b 4, .inr (4, [.int (μ2.1.1 20), .long (μ2.1.2.1 21), .long (μ2.1.2.1 22), .long (μ2.1.2.1 23), .ref (b 5), .ref (b 6), .ref (b 0)])), (b 5, .inr (2, [.long (μ2.1.2.1 30), .long (μ2.1.2.1 31)])), (b 6, .inr (2, [.long (μ2.1.2.1 32), .long (μ2.1.2.1 33)])), (b 7, .inr (6, [.int (μ2.1.1 40), .int (μ2.1.1 41), .int (μ2.1.1 42), .int (μ2.1.1 43), .int (μ2.1.1 44), .int (μ2.1.1 45), .ref (b 8), .ref (b 9), .ref (b 10), .int (μ2.1.1 49), .ref (b 11), .ref (b 12), .int (μ2.1.1 52)])), (b 8, .inl (d 0, 16, .inl (μ2.1.2.2.1 46))), (b 9, .inl (d 1, 16, .inr (.inl (μ2.1.2.2.2.1 47)))), (b 10, .inl (d 1, 16, .inr (.inl (μ2.1.2.2.2.1 48)))), (b 11, .inl (d 0, 8, .inl (μ2.1.2.2.1 50))), (b 12, .inl (d 0, 8, .inl (μ2.1.2.2.1 51))), (b 13, .inr (8, [.int (μ2.1.1 60), .int (μ2.1.1 61), .int (μ2.1.1 62), .int (μ2.1.1 63), .ref (b 14), .ref (b 15), .int (μ2.1.1 66), .ref (b 17)])), (b 14, .inl (d 0, 100, .inl (μ2.1.2.2.1 64))), (b 15, .inl (d 3, 100, .inl (μ2.1.2.2.1 65))), (b 16, .inr (17, [.ref (b 19), .int (μ2.1.1 81), .int (μ2.1.1 82)])), (b 19, .inl (d 4, 17, .inr (.inr (.inr (.inr (μ2.1.2.2.2.2 19))))))]) (w := XW d z b μ2.1) (tl := μ2.2) hP rfl rfl
        have hDc := toT_D (isC := [16, 17]) (isR := [0, 1, 2, 3, 4, 5, 6, 7, 8, 9, 10, 11, 12, 13, 14, 15, 18, 19]) (wc := ALP d (b 17) (b 18) (μ2.1.1 70, μ2.1.1 72, μ2.1.2.2.2.2 18)) (wr := [(b 0, .inr (1, [.ref (b 1), .int (μ2.1.1 1), .int (μ2.1.1 2), .ref (b 2), .ref (b 3), .ref (b 4), va_rf (μ2.1.2.2.2.2 6 0), .ref (b 7), .ref (b 13), .ref (b 16), .int (μ2.1.1 10)])), (b 1, .inl (d 2, 500, .inl (μ2.1.2.2.1 1))), (b 2, .inl (d 5, 2, .inr (.inr (.inr (.inr (fun j => some (z.2.2 j))))))), (b 3, .inl (d 6, 5, .inr (.inr (.inr (.inr (fun j => some (z.2.2 (2 + j)))))))), (b 4, .inr (4, [.int (μ2.1.1 20), .long (μ2.1.2.1 21), .long (μ2.1.2.1 22), .long (μ2.1.2.1 23), .ref (b 5), .ref (b 6), .ref (b 0)])), (b 5, .inr (2, [.long (μ2.1.2.1 30), .long (μ2.1.2.1 31)])), (b 6, .inr (2, [.long (μ2.1.2.1 32), .long (μ2.1.2.1 33)])), (b 7, .inr (6, [.int (μ2.1.1 40), .int (μ2.1.1 41), .int (μ2.1.1 42), .int (μ2.1.1 43), .int (μ2.1.1 44), .int (μ2.1.1 45), .ref (b 8), .ref (b 9), .ref (b 10), .int (μ2.1.1 49), .ref (b 11), .ref (b 12), .int (μ2.1.1 52)])), (b 8, .inl (d 0, 16, .inl (μ2.1.2.2.1 46))), (b 9, .inl (d 1, 16, .inr (.inl (μ2.1.2.2.2.1 47)))), (b 10, .inl (d 1, 16, .inr (.inl (μ2.1.2.2.2.1 48)))), (b 11, .inl (d 0, 8, .inl (μ2.1.2.2.1 50))), (b 12, .inl (d 0, 8, .inl (μ2.1.2.2.1 51))), (b 13, .inr (8, [.int (μ2.1.1 60), .int (μ2.1.1 61), .int (μ2.1.1 62), .int (μ2.1.1 63), .ref (b 14), .ref (b 15), .int (μ2.1.1 66), .ref (b 17)])), (b 14, .inl (d 0, 100, .inl (μ2.1.2.2.1 64))), (b 15, .inl (d 3, 100, .inl (μ2.1.2.2.1 65))), (b 16, .inr (17, [.ref (b 19), .int (μ2.1.1 81), .int (μ2.1.1 82)])), (b 19, .inl (d 4, 17, .inr (.inr (.inr (.inr (μ2.1.2.2.2.2 19))))))]) (w := XW d z b μ2.1) (tl := μ2.2) hD rfl rfl rfl
        refine runW_rS (va_runV (As := [.int x2_2]) (rest := []) S (tJ14_get l D d z (b 17) (b 18) ([(b 0, .inr (1, [.ref (b 1), .int (μ2.1.1 1), .int (μ2.1.1 2), .ref (b 2), .ref (b 3), .ref (b 4), va_rf (μ2.1.2.2.2.2 6 0), .ref (b 7), .ref (b 13), .ref (b 16), .int (μ2.1.1 10)])), (b 1, .inl (d 2, 500, .inl (μ2.1.2.2.1 1))), (b 2, .inl (d 5, 2, .inr (.inr (.inr (.inr (fun j => some (z.2.2 j))))))), (b 3, .inl (d 6, 5, .inr (.inr (.inr (.inr (fun j => some (z.2.2 (2 + j)))))))), (b 4, .inr (4, [.int (μ2.1.1 20), .long (μ2.1.2.1 21), .long (μ2.1.2.1 22), .long (μ2.1.2.1 23), .ref (b 5), .ref (b 6), .ref (b 0)])), (b 5, .inr (2, [.long (μ2.1.2.1 30), .long (μ2.1.2.1 31)])), (b 6, .inr (2, [.long (μ2.1.2.1 32), .long (μ2.1.2.1 33)])), (b 7, .inr (6, [.int (μ2.1.1 40), .int (μ2.1.1 41), .int (μ2.1.1 42), .int (μ2.1.1 43), .int (μ2.1.1 44), .int (μ2.1.1 45), .ref (b 8), .ref (b 9), .ref (b 10), .int (μ2.1.1 49), .ref (b 11), .ref (b 12), .int (μ2.1.1 52)])), (b 8, .inl (d 0, 16, .inl (μ2.1.2.2.1 46))), (b 9, .inl (d 1, 16, .inr (.inl (μ2.1.2.2.2.1 47)))), (b 10, .inl (d 1, 16, .inr (.inl (μ2.1.2.2.2.1 48)))), (b 11, .inl (d 0, 8, .inl (μ2.1.2.2.1 50))), (b 12, .inl (d 0, 8, .inl (μ2.1.2.2.1 51))), (b 13, .inr (8, [.int (μ2.1.1 60), .int (μ2.1.1 61), .int (μ2.1.1 62), .int (μ2.1.1 63), .ref (b 14), .ref (b 15), .int (μ2.1.1 66), .ref (b 17)])), (b 14, .inl (d 0, 100, .inl (μ2.1.2.2.1 64))), (b 15, .inl (d 3, 100, .inl (μ2.1.2.2.1 65))), (b 16, .inr (17, [.ref (b 19), .int (μ2.1.1 81), .int (μ2.1.1 82)])), (b 19, .inl (d 4, 17, .inr (.inr (.inr (.inr (μ2.1.2.2.2.2 19))))))] ++ μ2.2) K x2_2 (μ2.1.1 70, μ2.1.1 72, μ2.1.2.2.2.2 18) r_5 h_4 _) (cwV 1 hts (lw_V q1393 q942 q943 q118 q944) rfl rfl rfl (by decide +kernel) ⟨(Nat.le_of_ble_eq_true rfl), (Nat.le_of_ble_eq_true rfl)⟩) ⟨Pw.blind, (va_recv hK.1 hP (ci := 18) (q0 := 16) rfl rfl), fun U hU hW => Pw.at hK hPc hDc hZ hS hA hU hW⟩ rfl rfl hl.1 rfl (lv_room (Nat.le_of_ble_eq_true rfl)) dX0_placeOf_24 ⟨(Nat.le_of_ble_eq_true rfl), (Nat.le_of_ble_eq_true rfl)⟩) hPc hDc hS hA ?_
        clear hP hD hS hPc hDc
        intro _ _ H locs hP hD hS
        replace hP := ofT_P (perm := [2, 3, 4, 5, 6, 7, 8, 9, 10, 11, 12, 13, 14, 15, 16, 17, 0, 1, 18, 19]) (w' := XW d z b μ2.1) hP rfl
        replace hD := ofT_D (perm := [2, 3, 4, 5, 6, 7, 8, 9, 10, 11, 12, 13, 14, 15, 16, 17, 0, 1, 18, 19]) (w' := XW d z b μ2.1) hD rfl rfl
        clear h_4
        obtain ⟨t_6, m_7, hf⟩ := b1_some hf
        replace m_7 := entOf_mem m_7
        refine g_castM hx hb hts S.2.2.2.1 hK hP (ci := 16) rfl (List.mem_append_right _ m_7) q1394 dX0_placeOf_27 ?_
        refine g_getMN (tl := μ2.2) hx hb hts S.2.2.2.1 hK hP in_X17 m_7 rfl 0 (by decide) q1514 (fun _ h9 => h9) (v := .int t_6.1) rfl dX0_placeOf_30 ?_
        refine lv_iload_n hx hb dX0_placeOf_33 rfl (lv_at hl 1 rfl) ?_
        refine lv_icmp_ge (tgt := 43) hx hb dX0_placeOf_34 (by decide) (fun c_8 => ?_) (fun c_8 => ?_)
        · replace hf := it_t hf c_8
          clear c_8
          refine lv_iload_n hx hb dX0_placeOf_43 rfl (lv_at hl 2 rfl) ?_
          refine W.widen (k := 0) (n := 0) (Nat.le_of_ble_eq_true rfl) (Nat.le_of_ble_eq_true rfl) ?_
          exact hret _ _ _ _ _ _ hf dX0_placeOf_44 hP hD hS
        · replace hf := it_f hf c_8
          clear c_8
          refine lv_iinc (v := x2_2 + (1 : Int32)) (lv' := [(2, .int (x2_2 + (1 : Int32))), (0, .ref (b 0)), (1, .int x2_1)]) hx hb dX0_placeOf_37 hl (k := 2) rfl rfl (by decide) rfl (fun ls hl => ?_)
          refine lv_goto (tgt := 2) hx hb dX0_placeOf_40 (by decide) ?_
          exact ih x2_1 (x2_2 + (1 : Int32)) μ2 _ _ _ hf hP hD hS (lv_sub hl [1, 2, 0] rfl)
  unfold fX0_placeOf at hf
  refine lv_iconst (v := 0) hx hb dX0_placeOf_0 (by decide) ?_
  refine lv_istore_n (lv' := [(2, .int (0 : Int32)), (0, .ref (b 0)), (1, .int p0)]) hx hb dX0_placeOf_1 rfl hl (by decide) rfl (fun ls hl => ?_)
  exact L2 K p0 (0 : Int32) μ _ _ _ hf hP hD hS (lv_sub hl [1, 2, 0] rfl)
noncomputable def fX0_isEntry (K : Nat) (p0 : Int32) (μ : XT) : Option (Bool × XT) :=
  b2 (fX0_isReady K μ.1) fun r_2 ζ_3 =>
  nm ((xmrg μ.1 ζ_3, μ.2)) fun ζ_4 =>
  if r_2 = true then
    b1 (fJ14_size K (ζ_4.1.1 70, ζ_4.1.1 72, ζ_4.1.2.2.2.2 18)) fun r_7 =>
    b1 (fX0_isIn K p0 (0 : Int32) (r_7 - (1 : Int32))) fun r_8 =>
    if r_8 = true then
      some (true, ζ_4)
    else
      some (false, ζ_4)
  else
    some (false, ζ_4)
set_option maxHeartbeats 4000000 in
set_option maxRecDepth 100000 in
theorem tX0_isEntry (l : Launch) (D : va_G) (d : Nat → ClassId) (z : ZT) (b : Nat → Nat) (K : Nat) (p0 : Int32) (μ : XT) (r : Bool) (μ' : XT) (hf : fX0_isEntry K p0 μ = some (r, μ')) : CI l yX0_isEntry (ws_ yX0_isEntry cX0_isEntry 2 (Option.some Jvm.ClassFile.FieldType.boolean)) (rmc 1 0 0 22) D d z [.ref (b 0), .int p0] (XW d z b μ.1 ++ μ.2) (bi r) (XW d z b μ'.1 ++ μ'.2) := by
  refine CI.of2 (own := RX0) rfl (by decide) (Nat.le_of_ble_eq_true rfl) (bi_nar r) ?_
  intro p e s m args below meth c A Q ls S hin hK hP hD hZ hS hA hl hret0
  have hret : ∀ (x : Bool) (μx : XT) (H : Heap) (locs : List Loc) (pc : Nat) (ls' : Array Slot), some (x, μx) = some (r, μ') → decode cX0_isEntry pc = .ok (.ireturn, 1) → va_P D CL (XW d z b μx.1 ++ μx.2) H → va_D A (XW d z b μx.1 ++ μx.2) → va_S A s.heap H locs → W p l e (rmc 1 0 0 22) s m args below meth c H locs 0 0 Q (F0 m pc ls' [.int (bi x)]) := by
    intro x μx H locs pc ls' h9 hdg hP hD hS
    obtain ⟨rfl, rfl⟩ := so_2 h9
    exact hret0 H locs pc ls' hdg hP hD hS
  have hx := S.1
  have hb := S.2.1
  have hts := S.2.2.2.2
  have hl : lv_has ls 2 [(0, .ref (b 0)), (1, .int p0)] := hl
  unfold fX0_isEntry at hf
  refine lv_aload_n hx hb dX0_isEntry_0 rfl (lv_at hl 0 rfl) ?_
  obtain ⟨r_2, ζ_3, h_1, hf⟩ := b2_some hf
  obtain ⟨ζ_4, e_ζ_4⟩ : ∃ x, x = (xmrg μ.1 ζ_3, μ.2) := ⟨_, rfl⟩
  refine run_i (w := XW d z b μ.1) (tl := μ.2) (wr := [(b 17, .inr (18, [.int (μ.1.1 70), .ref (b 18), .int (μ.1.1 72)])), (b 18, .inl (d 4, 16, .inr (.inr (.inr (.inr (μ.1.2.2.2.2 18)))))), (b 16, .inr (17, [.ref (b 19), .int (μ.1.1 81), .int (μ.1.1 82)])), (b 19, .inl (d 4, 17, .inr (.inr (.inr (.inr (μ.1.2.2.2.2 19))))))]) (w' := XW d z b ζ_4.1) (va_runV (As := []) (rest := []) S (tX0_isReady l D d z b (μ.1.2.2.2.2 6 0) K μ.1 r_2 ζ_3 h_1 _) (cwV 0 hts (lw_V q857 q859 qs18 q94 q860) rfl rfl rfl (by decide +kernel) ⟨(Nat.le_of_ble_eq_true rfl), (Nat.le_of_ble_eq_true rfl)⟩) ⟨Pw.blind, (va_recv hK.1 hP (ci := 1) (q0 := 0) rfl rfl), fun U hU hW => Pw.cut (w := XW d z b μ.1) (tl := μ.2) hK hP hD hZ hS hA [0, 1, 2, 3, 4, 5, 6, 7, 8, 9, 10, 11, 12, 13, 14, 15] rfl rfl hU hW⟩ rfl rfl hl.1 rfl (lv_room (Nat.le_of_ble_eq_true rfl)) dX0_isEntry_1 ⟨(Nat.le_of_ble_eq_true rfl), (Nat.le_of_ble_eq_true rfl)⟩) hP hD hS hA [0, 1, 2, 3, 4, 5, 6, 7, 8, 9, 10, 11, 12, 13, 14, 15] [16, 17, 18, 19] [4, 5, 6, 7, 8, 9, 10, 11, 12, 13, 14, 15, 16, 17, 18, 19, 0, 1, 2, 3] rfl rfl rfl rfl (by decide) rfl (by subst e_ζ_4; rfl) ?_
  clear hP hD hS
  intro H locs hP hD hS
  rw [show μ.2 = ζ_4.2 from by subst e_ζ_4; rfl] at hP hD
  clear h_1
  replace hf := nm_some hf ζ_4 e_ζ_4
  clear e_ζ_4
  refine lv_if_eq (tgt := 31) hx hb dX0_isEntry_4 (by decide) (fun c_5 => ?_) (fun c_5 => ?_)
  · replace hf := it_f hf (bi_e0 c_5)
    clear c_5
    refine lv_iconst (v := 0) hx hb dX0_isEntry_31 (by decide) ?_
    refine W.widen (k := 0) (n := 0) (Nat.le_of_ble_eq_true rfl) (Nat.le_of_ble_eq_true rfl) ?_
    exact hret _ _ _ _ _ _ hf dX0_isEntry_32 hP hD hS
  · replace hf := it_t hf (bi_n0 c_5)
    clear c_5
    refine lv_iload_n hx hb dX0_isEntry_7 rfl (lv_at hl 1 rfl) ?_
    refine lv_iconst (v := 0) hx hb dX0_isEntry_8 (by decide) ?_
    refine lv_aload_n hx hb dX0_isEntry_9 rfl (lv_at hl 0 rfl) ?_
    refine g_get hx hb hts S.2.2.2.1 hK hP in_X0 0 rfl rfl 8 (by decide) q293 (fun _ h9 => h9) (v := .ref (b 13)) rfl dX0_isEntry_10 ?_
    refine g_getN hx hb hts S.2.2.2.1 hK hP in_X8 13 rfl rfl 7 (by decide) q823 (fun _ h9 => h9) (v := .ref (b 17)) rfl dX0_isEntry_13 ?_
    obtain ⟨r_7, h_6, hf⟩ := b1_some hf
    have hPc := toT_P (isC := [16, 17]) (isR := [0, 1, 2, 3, 4, 5, 6, 7, 8, 9, 10, 11, 12, 13, 14, 15, 18, 19]) (wc := ALP d (b 17) (b 18) (ζ_4.1.1 70, ζ_4.1.1 72, ζ_4.1.2.2.2.2 18)) (wr := [(b 0, .inr (1, [.ref (b 1), .int (ζ_4.1.1 1), .int (ζ_4.1.1 2), .ref (b 2), .ref (b 3), .ref (b 4), va_rf (ζ_4.1.2.2.2.2 6 0), .ref (b 7), .ref (b 13), .ref (b 16), .int (ζ_4.1.1 10)])), (b 1, .inl (d 2, 500, .inl (ζ_4.1.2.2.1 1))), (b 2, .inl (d 5, 2, .inr (.inr (.inr (.inr (fun j => some (z.2.2 j))))))), (b 3, .inl (d 6, 5, .inr (.inr (.inr (.inr (fun j => some (z.2.2 (2 + j)))))))), (b 4, .inr (4, [.int (ζ_4.1.1 20), .long (ζ_4.1.2.1 21), .long (ζ_4.1.2.1 22), .long (ζ_4.1.2.1 23), .ref (b 5), .ref (b 6), .ref (b 0)])), (b 5, .inr (2, [.long (ζ_4.1.2.1 30), .long (ζ_4.1.2.1 31)])), (b 6, .inr (2, [.long (ζ_4.1.2.1 32), .long (ζ_4.1.2.1 33)])), (b 7, .inr (6, [.int (ζ_4.1.1 40), .int (ζ_4.1.1 41), .int (ζ_4.1.1 42), .int (ζ_4.1.1 43), .int (ζ_4.1.1 44), .int (ζ_4.1.1 45), .ref (b 8), .ref (b 9), .ref (b 10), .int (ζ_4.1.1 49), .ref (b 11), .ref (b 12), .int (ζ_4.1.1 52)])), (b 8, .inl (d 0, 16, .inl (ζ_4.1.2.2.1 46))), (b 9, .inl (d 1, 16, .inr (.inl (ζ_4.1.2.2.2.1 47)))), (b 10, .inl (d 1, 16, .inr (.inl (ζ_4.1.2.2.2.1 48)))), (b 11, .inl (d 0, 8, .inl (ζ_4.1.2.2.1 50))), (b 12, .inl (d 0, 8, .inl (ζ_4.1.2.2.1 51))), (b 13, .inr (8, [.int (ζ_4.1.1 60), .int (ζ_4.1.1 61), .int (ζ_4.1.1 62), .int (ζ_4.1.1 63), .ref (b 14), .ref (b 15), .int (ζ_4.1.1 66), .ref (b 17)])), (b 14, .inl (d 0, 100, .inl (ζ_4.1.2.2.1 64))), (b 15, .inl (d 3, 100, .inl (ζ_4.1.2.2.1 65))), (b 16, .inr (17, [.ref (b 19), .int (ζ_4.1.1 81), .int (ζ_4.1.1 82)])), (b 19, .inl (d 4, 17, .inr (.inr (.inr (.inr (ζ_4.1.2.2.2.2 19))))))]) (w := XW d z b ζ_4.1) (tl := ζ_4.2) hP rfl rfl
    have hDc := toT_D (isC := [16, 17]) (isR := [0, 1, 2, 3, 4, 5, 6, 7, 8, 9, 10, 11, 12, 13, 14, 15, 18, 19]) (wc := ALP d (b 17) (b 18) (ζ_4.1.1 70, ζ_4.1.1 72, ζ_4.1.2.2.2.2 18)) (wr := [(b 0, .inr (1, [.ref (b 1), .int (ζ_4.1.1 1), .int (ζ_4.1.1 2), .ref (b 2), .ref (b 3), .ref (b 4), va_rf (ζ_4.1.2.2.2.2 6 0), .ref (b 7), .ref (b 13), .ref (b 16), .int (ζ_4.1.1 10)])), (b 1, .inl (d 2, 500, .inl (ζ_4.1.2.2.1 1))), (b 2, .inl (d 5, 2, .inr (.inr (.inr (.inr (fun j => some (z.2.2 j))))))), (b 3, .inl (d 6, 5, .inr (.inr (.inr (.inr (fun j => some (z.2.2 (2 + j)))))))), (b 4, .inr (4, [.int (ζ_4.1.1 20), .long (ζ_4.1.2.1 21), .long (ζ_4.1.2.1 22), .long (ζ_4.1.2.1 23), .ref (b 5), .ref (b 6), .ref (b 0)])), (b 5, .inr (2, [.long (ζ_4.1.2.1 30), .long (ζ_4.1.2.1 31)])), (b 6, .inr (2, [.long (ζ_4.1.2.1 32), .long (ζ_4.1.2.1 33)])), (b 7, .inr (6, [.int (ζ_4.1.1 40), .int (ζ_4.1.1 41), .int (ζ_4.1.1 42), .int (ζ_4.1.1 43), .int (ζ_4.1.1 44), .int (ζ_4.1.1 45), .ref (b 8), .ref (b 9), .ref (b 10), .int (ζ_4.1.1 49), .ref (b 11), .ref (b 12), .int (ζ_4.1.1 52)])), (b 8, .inl (d 0, 16, .inl (ζ_4.1.2.2.1 46))), (b 9, .inl (d 1, 16, .inr (.inl (ζ_4.1.2.2.2.1 47)))), (b 10, .inl (d 1, 16, .inr (.inl (ζ_4.1.2.2.2.1 48)))), (b 11, .inl (d 0, 8, .inl (ζ_4.1.2.2.1 50))), (b 12, .inl (d 0, 8, .inl (ζ_4.1.2.2.1 51))), (b 13, .inr (8, [.int (ζ_4.1.1 60), .int (ζ_4.1.1 61), .int (ζ_4.1.1 62), .int (ζ_4.1.1 63), .ref (b 14), .ref (b 15), .int (ζ_4.1.1 66), .ref (b 17)])), (b 14, .inl (d 0, 100, .inl (ζ_4.1.2.2.1 64))), (b 15, .inl (d 3, 100, .inl (ζ_4.1.2.2.1 65))), (b 16, .inr (17, [.ref (b 19), .int (ζ_4.1.1 81), .int (ζ_4.1.1 82)])), (b 19, .inl (d 4, 17, .inr (.inr (.inr (.inr (ζ_4.1.2.2.2.2 19))))))]) (w := XW d z b ζ_4.1) (tl := ζ_4.2) hD rfl rfl rfl
    refine runW_i (va_runV (As := []) (rest := [.int (0 : Int32), .int p0]) S (tJ14_size l D d z (b 17) (b 18) ([(b 0, .inr (1, [.ref (b 1), .int (ζ_4.1.1 1), .int (ζ_4.1.1 2), .ref (b 2), .ref (b 3), .ref (b 4), va_rf (ζ_4.1.2.2.2.2 6 0), .ref (b 7), .ref (b 13), .ref (b 16), .int (ζ_4.1.1 10)])), (b 1, .inl (d 2, 500, .inl (ζ_4.1.2.2.1 1))), (b 2, .inl (d 5, 2, .inr (.inr (.inr (.inr (fun j => some (z.2.2 j))))))), (b 3, .inl (d 6, 5, .inr (.inr (.inr (.inr (fun j => some (z.2.2 (2 + j)))))))), (b 4, .inr (4, [.int (ζ_4.1.1 20), .long (ζ_4.1.2.1 21), .long (ζ_4.1.2.1 22), .long (ζ_4.1.2.1 23), .ref (b 5), .ref (b 6), .ref (b 0)])), (b 5, .inr (2, [.long (ζ_4.1.2.1 30), .long (ζ_4.1.2.1 31)])), (b 6, .inr (2, [.long (ζ_4.1.2.1 32), .long (ζ_4.1.2.1 33)])), (b 7, .inr (6, [.int (ζ_4.1.1 40), .int (ζ_4.1.1 41), .int (ζ_4.1.1 42), .int (ζ_4.1.1 43), .int (ζ_4.1.1 44), .int (ζ_4.1.1 45), .ref (b 8), .ref (b 9), .ref (b 10), .int (ζ_4.1.1 49), .ref (b 11), .ref (b 12), .int (ζ_4.1.1 52)])), (b 8, .inl (d 0, 16, .inl (ζ_4.1.2.2.1 46))), (b 9, .inl (d 1, 16, .inr (.inl (ζ_4.1.2.2.2.1 47)))), (b 10, .inl (d 1, 16, .inr (.inl (ζ_4.1.2.2.2.1 48)))), (b 11, .inl (d 0, 8, .inl (ζ_4.1.2.2.1 50))), (b 12, .inl (d 0, 8, .inl (ζ_4.1.2.2.1 51))), (b 13, .inr (8, [.int (ζ_4.1.1 60), .int (ζ_4.1.1 61), .int (ζ_4.1.1 62), .int (ζ_4.1.1 63), .ref (b 14), .ref (b 15), .int (ζ_4.1.1 66), .ref (b 17)])), (b 14, .inl (d 0, 100, .inl (ζ_4.1.2.2.1 64))), (b 15, .inl (d 3, 100, .inl (ζ_4.1.2.2.1 65))), (b 16, .inr (17, [.ref (b 19), .int (ζ_4.1.1 81), .int (ζ_4.1.1 82)])), (b 19, .inl (d 4, 17, .inr (.inr (.inr (.inr (ζ_4.1.2.2.2.2 19))))))] ++ ζ_4.2) K (ζ_4.1.1 70, ζ_4.1.1 72, ζ_4.1.2.2.2.2 18) r_7 h_6 _) (cwV 0 hts (lw_V q1392 q938 q939 q118 q940) rfl rfl rfl (by decide +kernel) ⟨(Nat.le_of_ble_eq_true rfl), (Nat.le_of_ble_eq_true rfl)⟩) ⟨Pw.blind, (va_recv hK.1 hP (ci := 18) (q0 := 16) rfl rfl), fun U hU hW => Pw.at hK hPc hDc hZ hS hA hU hW⟩ rfl rfl hl.1 rfl (lv_room (Nat.le_of_ble_eq_true rfl)) dX0_isEntry_16 ⟨(Nat.le_of_ble_eq_true rfl), (Nat.le_of_ble_eq_true rfl)⟩) hPc hDc hS hA ?_
    clear hP hD hS hPc hDc
    intro H locs hP hD hS
    replace hP := ofT_P (perm := [2, 3, 4, 5, 6, 7, 8, 9, 10, 11, 12, 13, 14, 15, 16, 17, 0, 1, 18, 19]) (w' := XW d z b ζ_4.1) hP rfl
    replace hD := ofT_D (perm := [2, 3, 4, 5, 6, 7, 8, 9, 10, 11, 12, 13, 14, 15, 16, 17, 0, 1, 18, 19]) (w' := XW d z b ζ_4.1) hD rfl rfl
    clear h_6
    refine lv_iconst (v := 1) hx hb dX0_isEntry_19 (by decide) ?_
    refine lv_isub hx hb dX0_isEntry_20 ?_
    obtain ⟨r_8, h_9, hf⟩ := b1_some hf
    refine si_call S (tX0_isIn l K p0 (0 : Int32) (r_7 - (1 : Int32)) _ h_9) (va_cwS 3 hts (lw_S q331 q332 q94 q333) rfl rfl rfl (by decide +kernel) ⟨(Nat.le_of_ble_eq_true rfl), (Nat.le_of_ble_eq_true rfl)⟩) rfl hl.1 rfl (Nat.le_of_ble_eq_true rfl) ⟨(Nat.le_of_ble_eq_true rfl), (Nat.le_of_ble_eq_true rfl)⟩ dX0_isEntry_21 ?_
    clear h_9
    refine lv_if_eq (tgt := 31) hx hb dX0_isEntry_24 (by decide) (fun c_10 => ?_) (fun c_10 => ?_)
    · replace hf := it_f hf (bi_e0 c_10)
      clear c_10
      refine lv_iconst (v := 0) hx hb dX0_isEntry_31 (by decide) ?_
      refine W.widen (k := 0) (n := 0) (Nat.le_of_ble_eq_true rfl) (Nat.le_of_ble_eq_true rfl) ?_
      exact hret _ _ _ _ _ _ hf dX0_isEntry_32 hP hD hS
    · replace hf := it_t hf (bi_n0 c_10)
      clear c_10
      refine lv_iconst (v := 1) hx hb dX0_isEntry_27 (by decide) ?_
      refine lv_goto (tgt := 32) hx hb dX0_isEntry_28 (by decide) ?_
      refine W.widen (k := 0) (n := 0) (Nat.le_of_ble_eq_true rfl) (Nat.le_of_ble_eq_true rfl) ?_
      exact hret _ _ _ _ _ _ hf dX0_isEntry_32 hP hD hS
def fX17_init (K : Nat) (p0 : Int32) (p1 : Int32) (p2 : Int32) (μ : Int32 × Int32 × Int32) : Option (Int32 × Int32 × Int32) :=
  some (p0, p1, p2)
set_option maxHeartbeats 4000000 in
set_option maxRecDepth 100000 in
theorem tX17_init (l : Launch) (D : va_G) (d : Nat → ClassId) (z : ZT) (o : Nat) (K : Nat) (p0 : Int32) (p1 : Int32) (p2 : Int32) (μ : Int32 × Int32 × Int32) (μ' : Int32 × Int32 × Int32) (hf : fX17_init K p0 p1 p2 μ = some μ') : CV l yX17_init (ws_ yX17_init cX17_init 4 (Option.none : Option Jvm.ClassFile.FieldType)) (rmc 1 0 0 12) D d z [.ref o, .int p0, .int p1, .int p2] (NP o μ) (NP o μ') := by
  refine CV.of2 (own := RX17) rfl (by decide) (Nat.le_of_ble_eq_true rfl) ?_
  intro p e s m args below meth c A Q ls S hin hK hP hD hZ hS hA hl hret0
  have hret : ∀ (μx : Int32 × Int32 × Int32) (H : Heap) (locs : List Loc) (pc : Nat) (ls' : Array Slot), some μx = some μ' → decode cX17_init pc = .ok (.return_, 1) → va_P D CL (NP o μx) H → va_D A (NP o μx) → va_S A s.heap H locs → W p l e (rmc 1 0 0 12) s m args below meth c H locs 0 0 Q (F0 m pc ls' []) := by
    intro μx H locs pc ls' h9 hdg hP hD hS
    obtain rfl := so_1 h9
    exact hret0 H locs pc ls' hdg hP hD hS
  have hx := S.1
  have hb := S.2.1
  have hts := S.2.2.2.2
  have hl : lv_has ls 4 [(0, .ref o), (1, .int p0), (2, .int p1), (3, .int p2)] := hl
  unfold fX17_init at hf
  refine lv_aload_n hx hb dX17_init_0 rfl (lv_at hl 0 rfl) ?_
  refine W.objInit hx hb S.2.2.2.1 (hts _ q1512) (hts _ q136) (hts _ q137) rfl (by rw [S.2.2.1]; exact hl.1) rfl dX17_init_1 (Nat.le_of_ble_eq_true rfl) (Nat.le_of_ble_eq_true rfl) ?_
  refine W.eq (g2 := F0 m 4 ls []) rfl ?_
  refine lv_aload_n hx hb dX17_init_4 rfl (lv_at hl 0 rfl) ?_
  refine lv_iload_n hx hb dX17_init_5 rfl (lv_at hl 1 rfl) ?_
  refine g_putF hx hb hts S.2.2.2.1 hK hP hD hS in_X17 tyX17 tyX17_ok nmX17 0 rfl rfl 0 (by decide) q1513 (fun _ h9 => h9) rfl hin rfl (v := .int p0) rfl rfl rfl (Nat.le_of_ble_eq_true rfl) (w' := NP o (p0, μ.2.1, μ.2.2)) rfl dX17_init_6 ?_
  clear hP hD hS
  intro H locs hP hD hS
  refine lv_aload_n hx hb dX17_init_9 rfl (lv_at hl 0 rfl) ?_
  refine lv_iload_n hx hb dX17_init_10 rfl (lv_at hl 2 rfl) ?_
  refine g_putF hx hb hts S.2.2.2.1 hK hP hD hS in_X17 tyX17 tyX17_ok nmX17 0 rfl rfl 1 (by decide) q1515 (fun _ h9 => h9) rfl hin rfl (v := .int p1) rfl rfl rfl (Nat.le_of_ble_eq_true rfl) (w' := NP o (p0, p1, μ.2.2)) rfl dX17_init_11 ?_
  clear hP hD hS
  intro H locs hP hD hS
  refine lv_aload_n hx hb dX17_init_14 rfl (lv_at hl 0 rfl) ?_
  refine lv_iload_n hx hb dX17_init_15 rfl (lv_at hl 3 rfl) ?_
  refine g_putF hx hb hts S.2.2.2.1 hK hP hD hS in_X17 tyX17 tyX17_ok nmX17 0 rfl rfl 2 (by decide) q1517 (fun _ h9 => h9) rfl hin rfl (v := .int p2) rfl rfl rfl (Nat.le_of_ble_eq_true rfl) (w' := NP o (p0, p1, p2)) rfl dX17_init_16 ?_
  clear hP hD hS
  intro H locs hP hD hS
  refine W.widen (k := 0) (n := 0) (Nat.le_of_ble_eq_true rfl) (Nat.le_of_ble_eq_true rfl) ?_
  exact hret _ _ _ _ _ hf dX17_init_19 hP hD hS
noncomputable def fX0_store (K : Nat) (d : Nat → ClassId) (u : UU) (μ : XT) : Option (Int32 × XT) :=
  b2 (fX0_isReady K μ.1) fun r_2 ζ_3 =>
  nm ((xmrg μ.1 ζ_3, μ.2)) fun ζ_4 =>
  if r_2 = true then
    b2 (fX0_placeOf K (ζ_4.1.1 60) ζ_4) fun r_7 ζ_8 =>
    b1 (fJ14_size K (ζ_8.1.1 70, ζ_8.1.1 72, ζ_8.1.2.2.2.2 18)) fun r_10 =>
    if r_10 ≤ r_7 then
      if (0 : Int32) = 0 then
        b1 (fJ14_size K (ζ_8.1.1 70, ζ_8.1.1 72, ζ_8.1.2.2.2.2 18)) fun r_39 =>
        if r_39 = (16 : Int32) then
          some ((-2 : Int32), ζ_8)
        else
          b1u u (fun u => fX0_remember K d u ζ_8) fun ζ_43 u =>
          ask u fun q_45 u =>
          b1 (fX0_here K ζ_43.1) fun ζ_47 =>
          nm ((xmrg ζ_43.1 ζ_47, ζ_43.2)) fun ζ_48 =>
          b2 (fX3_swr K ζ_48.1) fun r_50 ζ_51 =>
          nm ((xmrg ζ_48.1 ζ_51, ζ_48.2)) fun ζ_52 =>
          b1 (fX17_init K (ζ_43.1.1 60) (ζ_43.1.1 61) r_50 ((0 : Int32), (0 : Int32), (0 : Int32))) fun ζ_54 =>
          if (0 : Int32) = 0 then
            gaP (∀ j q, ζ_52.1.2.2.2.2 18 j = some q → ∃ fs, (q, (.inr (16, fs) : va_E)) ∈ ζ_52.2) <|
            b1 (fJ14_add_3 K r_7 q_45 (ζ_52.1.1 70, ζ_52.1.1 72, ζ_52.1.2.2.2.2 18)) fun ζ_58 =>
            nm ((xP (xI (xI ζ_52.1 70 ζ_58.1) 72 ζ_58.2.1) 18 ζ_58.2.2, ζ_52.2)) fun ζ_59 =>
            nm ((ζ_59.1, [(q_45, .inr (16, [.int ζ_54.1, .int ζ_54.2.1, .int ζ_54.2.2]))] ++ ζ_59.2)) fun ζ_60 =>
            some (r_7, ζ_60)
          else
            b2 (fJ14_set K r_7 q_45 (ζ_52.1.1 70, ζ_52.1.1 72, ζ_52.1.2.2.2.2 18)) fun r_62 ζ_63 =>
            nm ((xP (xI (xI ζ_52.1 70 ζ_63.1) 72 ζ_63.2.1) 18 ζ_63.2.2, ζ_52.2)) fun ζ_64 =>
            nm ((ζ_64.1, [(q_45, .inr (16, [.int ζ_54.1, .int ζ_54.2.1, .int ζ_54.2.2]))] ++ ζ_64.2)) fun ζ_65 =>
            some (r_7, ζ_65)
      else
        b1u u (fun u => fX0_remember K d u ζ_8) fun ζ_15 u =>
        ask u fun q_17 u =>
        b1 (fX0_here K ζ_15.1) fun ζ_19 =>
        nm ((xmrg ζ_15.1 ζ_19, ζ_15.2)) fun ζ_20 =>
        b2 (fX3_swr K ζ_20.1) fun r_22 ζ_23 =>
        nm ((xmrg ζ_20.1 ζ_23, ζ_20.2)) fun ζ_24 =>
        b1 (fX17_init K (ζ_15.1.1 60) (ζ_15.1.1 61) r_22 ((0 : Int32), (0 : Int32), (0 : Int32))) fun ζ_26 =>
        if (0 : Int32) = 0 then
          gaP (∀ j q, ζ_24.1.2.2.2.2 18 j = some q → ∃ fs, (q, (.inr (16, fs) : va_E)) ∈ ζ_24.2) <|
          b1 (fJ14_add_3 K r_7 q_17 (ζ_24.1.1 70, ζ_24.1.1 72, ζ_24.1.2.2.2.2 18)) fun ζ_30 =>
          nm ((xP (xI (xI ζ_24.1 70 ζ_30.1) 72 ζ_30.2.1) 18 ζ_30.2.2, ζ_24.2)) fun ζ_31 =>
          nm ((ζ_31.1, [(q_17, .inr (16, [.int ζ_26.1, .int ζ_26.2.1, .int ζ_26.2.2]))] ++ ζ_31.2)) fun ζ_32 =>
          some (r_7, ζ_32)
        else
          b2 (fJ14_set K r_7 q_17 (ζ_24.1.1 70, ζ_24.1.1 72, ζ_24.1.2.2.2.2 18)) fun r_34 ζ_35 =>
          nm ((xP (xI (xI ζ_24.1 70 ζ_35.1) 72 ζ_35.2.1) 18 ζ_35.2.2, ζ_24.2)) fun ζ_36 =>
          nm ((ζ_36.1, [(q_17, .inr (16, [.int ζ_26.1, .int ζ_26.2.1, .int ζ_26.2.2]))] ++ ζ_36.2)) fun ζ_37 =>
          some (r_7, ζ_37)
    else
      b1 (fJ14_get K r_7 (ζ_8.1.1 70, ζ_8.1.1 72, ζ_8.1.2.2.2.2 18)) fun r_67 =>
      b1 (entOf ζ_8.2 r_67) fun t_68 =>
      if t_68.1 = (ζ_8.1.1 60) then
        if (1 : Int32) = 0 then
          b1 (fJ14_size K (ζ_8.1.1 70, ζ_8.1.1 72, ζ_8.1.2.2.2.2 18)) fun r_152 =>
          if r_152 = (16 : Int32) then
            some ((-2 : Int32), ζ_8)
          else
            b1u u (fun u => fX0_remember K d u ζ_8) fun ζ_156 u =>
            ask u fun q_158 u =>
            b1 (fX0_here K ζ_156.1) fun ζ_160 =>
            nm ((xmrg ζ_156.1 ζ_160, ζ_156.2)) fun ζ_161 =>
            b2 (fX3_swr K ζ_161.1) fun r_163 ζ_164 =>
            nm ((xmrg ζ_161.1 ζ_164, ζ_161.2)) fun ζ_165 =>
            b1 (fX17_init K (ζ_156.1.1 60) (ζ_156.1.1 61) r_163 ((0 : Int32), (0 : Int32), (0 : Int32))) fun ζ_167 =>
            if (1 : Int32) = 0 then
              gaP (∀ j q, ζ_165.1.2.2.2.2 18 j = some q → ∃ fs, (q, (.inr (16, fs) : va_E)) ∈ ζ_165.2) <|
              b1 (fJ14_add_3 K r_7 q_158 (ζ_165.1.1 70, ζ_165.1.1 72, ζ_165.1.2.2.2.2 18)) fun ζ_171 =>
              nm ((xP (xI (xI ζ_165.1 70 ζ_171.1) 72 ζ_171.2.1) 18 ζ_171.2.2, ζ_165.2)) fun ζ_172 =>
              nm ((ζ_172.1, [(q_158, .inr (16, [.int ζ_167.1, .int ζ_167.2.1, .int ζ_167.2.2]))] ++ ζ_172.2)) fun ζ_173 =>
              some (r_7, ζ_173)
            else
              b2 (fJ14_set K r_7 q_158 (ζ_165.1.1 70, ζ_165.1.1 72, ζ_165.1.2.2.2.2 18)) fun r_175 ζ_176 =>
              nm ((xP (xI (xI ζ_165.1 70 ζ_176.1) 72 ζ_176.2.1) 18 ζ_176.2.2, ζ_165.2)) fun ζ_177 =>
              nm ((ζ_177.1, [(q_158, .inr (16, [.int ζ_167.1, .int ζ_167.2.1, .int ζ_167.2.2]))] ++ ζ_177.2)) fun ζ_178 =>
              some (r_7, ζ_178)
        else
          b1u u (fun u => fX0_remember K d u ζ_8) fun ζ_128 u =>
          ask u fun q_130 u =>
          b1 (fX0_here K ζ_128.1) fun ζ_132 =>
          nm ((xmrg ζ_128.1 ζ_132, ζ_128.2)) fun ζ_133 =>
          b2 (fX3_swr K ζ_133.1) fun r_135 ζ_136 =>
          nm ((xmrg ζ_133.1 ζ_136, ζ_133.2)) fun ζ_137 =>
          b1 (fX17_init K (ζ_128.1.1 60) (ζ_128.1.1 61) r_135 ((0 : Int32), (0 : Int32), (0 : Int32))) fun ζ_139 =>
          if (1 : Int32) = 0 then
            gaP (∀ j q, ζ_137.1.2.2.2.2 18 j = some q → ∃ fs, (q, (.inr (16, fs) : va_E)) ∈ ζ_137.2) <|
            b1 (fJ14_add_3 K r_7 q_130 (ζ_137.1.1 70, ζ_137.1.1 72, ζ_137.1.2.2.2.2 18)) fun ζ_143 =>
            nm ((xP (xI (xI ζ_137.1 70 ζ_143.1) 72 ζ_143.2.1) 18 ζ_143.2.2, ζ_137.2)) fun ζ_144 =>
            nm ((ζ_144.1, [(q_130, .inr (16, [.int ζ_139.1, .int ζ_139.2.1, .int ζ_139.2.2]))] ++ ζ_144.2)) fun ζ_145 =>
            some (r_7, ζ_145)
          else
            b2 (fJ14_set K r_7 q_130 (ζ_137.1.1 70, ζ_137.1.1 72, ζ_137.1.2.2.2.2 18)) fun r_147 ζ_148 =>
            nm ((xP (xI (xI ζ_137.1 70 ζ_148.1) 72 ζ_148.2.1) 18 ζ_148.2.2, ζ_137.2)) fun ζ_149 =>
            nm ((ζ_149.1, [(q_130, .inr (16, [.int ζ_139.1, .int ζ_139.2.1, .int ζ_139.2.2]))] ++ ζ_149.2)) fun ζ_150 =>
            some (r_7, ζ_150)
      else
        if (0 : Int32) = 0 then
          b1 (fJ14_size K (ζ_8.1.1 70, ζ_8.1.1 72, ζ_8.1.2.2.2.2 18)) fun r_98 =>
          if r_98 = (16 : Int32) then
            some ((-2 : Int32), ζ_8)
          else
            b1u u (fun u => fX0_remember K d u ζ_8) fun ζ_102 u =>
            ask u fun q_104 u =>
            b1 (fX0_here K ζ_102.1) fun ζ_106 =>
            nm ((xmrg ζ_102.1 ζ_106, ζ_102.2)) fun ζ_107 =>
            b2 (fX3_swr K ζ_107.1) fun r_109 ζ_110 =>
            nm ((xmrg ζ_107.1 ζ_110, ζ_107.2)) fun ζ_111 =>
            b1 (fX17_init K (ζ_102.1.1 60) (ζ_102.1.1 61) r_109 ((0 : Int32), (0 : Int32), (0 : Int32))) fun ζ_113 =>
            if (0 : Int32) = 0 then
              gaP (∀ j q, ζ_111.1.2.2.2.2 18 j = some q → ∃ fs, (q, (.inr (16, fs) : va_E)) ∈ ζ_111.2) <|
              b1 (fJ14_add_3 K r_7 q_104 (ζ_111.1.1 70, ζ_111.1.1 72, ζ_111.1.2.2.2.2 18)) fun ζ_117 =>
              nm ((xP (xI (xI ζ_111.1 70 ζ_117.1) 72 ζ_117.2.1) 18 ζ_117.2.2, ζ_111.2)) fun ζ_118 =>
              nm ((ζ_118.1, [(q_104, .inr (16, [.int ζ_113.1, .int ζ_113.2.1, .int ζ_113.2.2]))] ++ ζ_118.2)) fun ζ_119 =>
              some (r_7, ζ_119)
            else
              b2 (fJ14_set K r_7 q_104 (ζ_111.1.1 70, ζ_111.1.1 72, ζ_111.1.2.2.2.2 18)) fun r_121 ζ_122 =>
              nm ((xP (xI (xI ζ_111.1 70 ζ_122.1) 72 ζ_122.2.1) 18 ζ_122.2.2, ζ_111.2)) fun ζ_123 =>
              nm ((ζ_123.1, [(q_104, .inr (16, [.int ζ_113.1, .int ζ_113.2.1, .int ζ_113.2.2]))] ++ ζ_123.2)) fun ζ_124 =>
              some (r_7, ζ_124)
        else
          b1u u (fun u => fX0_remember K d u ζ_8) fun ζ_74 u =>
          ask u fun q_76 u =>
          b1 (fX0_here K ζ_74.1) fun ζ_78 =>
          nm ((xmrg ζ_74.1 ζ_78, ζ_74.2)) fun ζ_79 =>
          b2 (fX3_swr K ζ_79.1) fun r_81 ζ_82 =>
          nm ((xmrg ζ_79.1 ζ_82, ζ_79.2)) fun ζ_83 =>
          b1 (fX17_init K (ζ_74.1.1 60) (ζ_74.1.1 61) r_81 ((0 : Int32), (0 : Int32), (0 : Int32))) fun ζ_85 =>
          if (0 : Int32) = 0 then
            gaP (∀ j q, ζ_83.1.2.2.2.2 18 j = some q → ∃ fs, (q, (.inr (16, fs) : va_E)) ∈ ζ_83.2) <|
            b1 (fJ14_add_3 K r_7 q_76 (ζ_83.1.1 70, ζ_83.1.1 72, ζ_83.1.2.2.2.2 18)) fun ζ_89 =>
            nm ((xP (xI (xI ζ_83.1 70 ζ_89.1) 72 ζ_89.2.1) 18 ζ_89.2.2, ζ_83.2)) fun ζ_90 =>
            nm ((ζ_90.1, [(q_76, .inr (16, [.int ζ_85.1, .int ζ_85.2.1, .int ζ_85.2.2]))] ++ ζ_90.2)) fun ζ_91 =>
            some (r_7, ζ_91)
          else
            b2 (fJ14_set K r_7 q_76 (ζ_83.1.1 70, ζ_83.1.1 72, ζ_83.1.2.2.2.2 18)) fun r_93 ζ_94 =>
            nm ((xP (xI (xI ζ_83.1 70 ζ_94.1) 72 ζ_94.2.1) 18 ζ_94.2.2, ζ_83.2)) fun ζ_95 =>
            nm ((ζ_95.1, [(q_76, .inr (16, [.int ζ_85.1, .int ζ_85.2.1, .int ζ_85.2.2]))] ++ ζ_95.2)) fun ζ_96 =>
            some (r_7, ζ_96)
  else
    some ((-1 : Int32), ζ_4)
set_option maxHeartbeats 4000000 in
set_option maxRecDepth 100000 in
theorem tX0_store (l : Launch) (D : va_G) (d : Nat → ClassId) (z : ZT) (b : Nat → Nat) (K : Nat) (μ : XT) (y : UU → (Int32 × XT)) (hf : ∀ u, fX0_store K d u μ = some (y u)) : CIS l yX0_store (ws_ yX0_store cX0_store 4 (Option.some Jvm.ClassFile.FieldType.int)) (rmc 7 6 230 152) D d z [.ref (b 0)] (XW d z b μ.1 ++ μ.2) (fun u : UU => (y u).1) (fun u : UU => XW d z b (y u).2.1 ++ (y u).2.2) (fun _ => True) := by
  refine CIS.of (own := RX0) rfl (by decide) (Nat.le_of_ble_eq_true rfl) (fun _ => rfl) ?_
  intro p e s m args below meth c A Q ls S hin hK hP hD hZ hS hA hl hret0
  have hret : ∀ (U0 : UU) (x : Int32) (μx : XT) (H : Heap) (locs : List Loc) (pc : Nat) (ls' : Array Slot), some (x, μx) = some (y U0) → decode cX0_store pc = .ok (.ireturn, 1) → va_P D CL (XW d z b μx.1 ++ μx.2) H → va_D A (XW d z b μx.1 ++ μx.2) → va_S A s.heap H locs → W p l e (rmc 7 6 230 152) s m args below meth c H locs 6 230 Q (F0 m pc ls' [.int x]) := by
    intro U0 x μx H locs pc ls' h9 hdg hP hD hS
    have h8 := hret0 U0 trivial H locs pc ls' hdg
    rw [← Option.some.inj h9] at h8
    exact h8 hP hD hS
  have hx := S.1
  have hb := S.2.1
  have hts := S.2.2.2.2
  have hl : lv_has ls 4 [(0, .ref (b 0))] := hl
  unfold fX0_store at hf
  refine lv_aload_n hx hb dX0_store_0 rfl (lv_at hl 0 rfl) ?_
  obtain ⟨r_2, ζ_3, h_1, hf⟩ := b2U hf
  obtain ⟨ζ_4, e_ζ_4⟩ : ∃ x, x = (xmrg μ.1 ζ_3, μ.2) := ⟨_, rfl⟩
  refine run_i (w := XW d z b μ.1) (tl := μ.2) (wr := [(b 17, .inr (18, [.int (μ.1.1 70), .ref (b 18), .int (μ.1.1 72)])), (b 18, .inl (d 4, 16, .inr (.inr (.inr (.inr (μ.1.2.2.2.2 18)))))), (b 16, .inr (17, [.ref (b 19), .int (μ.1.1 81), .int (μ.1.1 82)])), (b 19, .inl (d 4, 17, .inr (.inr (.inr (.inr (μ.1.2.2.2.2 19))))))]) (w' := XW d z b ζ_4.1) (va_runV (As := []) (rest := []) S (tX0_isReady l D d z b (μ.1.2.2.2.2 6 0) K μ.1 r_2 ζ_3 h_1 _) (cwV 0 hts (lw_V q857 q859 qs18 q94 q860) rfl rfl rfl (by decide +kernel) ⟨(Nat.le_of_ble_eq_true rfl), (Nat.le_of_ble_eq_true rfl)⟩) ⟨Pw.blind, (va_recv hK.1 hP (ci := 1) (q0 := 0) rfl rfl), fun U hU hW => Pw.cut (w := XW d z b μ.1) (tl := μ.2) hK hP hD hZ hS hA [0, 1, 2, 3, 4, 5, 6, 7, 8, 9, 10, 11, 12, 13, 14, 15] rfl rfl hU hW⟩ rfl rfl hl.1 rfl (lv_room (Nat.le_of_ble_eq_true rfl)) dX0_store_1 ⟨(Nat.le_of_ble_eq_true rfl), (Nat.le_of_ble_eq_true rfl)⟩) hP hD hS hA [0, 1, 2, 3, 4, 5, 6, 7, 8, 9, 10, 11, 12, 13, 14, 15] [16, 17, 18, 19] [4, 5, 6, 7, 8, 9, 10, 11, 12, 13, 14, 15, 16, 17, 18, 19, 0, 1, 2, 3] rfl rfl rfl rfl (by decide) rfl (by subst e_ζ_4; rfl) ?_
  clear hP hD hS
  intro H locs hP hD hS
  rw [show μ.2 = ζ_4.2 from by subst e_ζ_4; rfl] at hP hD
  clear h_1
  replace hf := nmU hf ζ_4 e_ζ_4
  clear e_ζ_4
  refine lv_if_ne (tgt := 9) hx hb dX0_store_4 (by decide) (fun c_5 => ?_) (fun c_5 => ?_)
  · replace hf := itU_t hf (bi_n0 c_5)
    clear c_5
    refine lv_aload_n hx hb dX0_store_9 rfl (lv_at hl 0 rfl) ?_
    refine lv_aload_n hx hb dX0_store_10 rfl (lv_at hl 0 rfl) ?_
    refine g_get hx hb hts S.2.2.2.1 hK hP in_X0 0 rfl rfl 8 (by decide) q293 (fun _ h9 => h9) (v := .ref (b 13)) rfl dX0_store_11 ?_
    refine g_getN hx hb hts S.2.2.2.1 hK hP in_X8 13 rfl rfl 0 (by decide) q810 (fun _ h9 => h9) (v := .int (ζ_4.1.1 60)) rfl dX0_store_14 ?_
    obtain ⟨r_7, ζ_8, h_6, hf⟩ := b2U hf
    refine runW_i (va_runV (As := [.int (ζ_4.1.1 60)]) (rest := []) S (tX0_placeOf l D d z b K (ζ_4.1.1 60) ζ_4 r_7 ζ_8 h_6 _) (cwV 1 hts (lw_V q1504 q1506 qs45 q94 q1507) rfl rfl rfl (by decide +kernel) ⟨(Nat.le_of_ble_eq_true rfl), (Nat.le_of_ble_eq_true rfl)⟩) ⟨Pw.blind, (va_recv hK.1 hP (ci := 1) (q0 := 0) rfl rfl), fun U hU hW => Pw.at hK hP hD hZ hS hA hU hW⟩ rfl rfl hl.1 rfl (lv_room (Nat.le_of_ble_eq_true rfl)) dX0_store_17 ⟨(Nat.le_of_ble_eq_true rfl), (Nat.le_of_ble_eq_true rfl)⟩) hP hD hS hA ?_
    clear hP hD hS
    intro H locs hP hD hS
    clear h_6
    refine lv_istore_n (lv' := [(1, .int r_7), (0, .ref (b 0))]) hx hb dX0_store_20 rfl hl (by decide) rfl (fun ls hl => ?_)
    refine lv_iload_n hx hb dX0_store_21 rfl (lv_at hl 0 rfl) ?_
    refine lv_aload_n hx hb dX0_store_22 rfl (lv_at hl 1 rfl) ?_
    refine g_get hx hb hts S.2.2.2.1 hK hP in_X0 0 rfl rfl 8 (by decide) q293 (fun _ h9 => h9) (v := .ref (b 13)) rfl dX0_store_23 ?_
    refine g_getN hx hb hts S.2.2.2.1 hK hP in_X8 13 rfl rfl 7 (by decide) q823 (fun _ h9 => h9) (v := .ref (b 17)) rfl dX0_store_26 ?_
    obtain ⟨r_10, h_9, hf⟩ := b1U hf
    have hPc := toT_P (isC := [16, 17]) (isR := [0, 1, 2, 3, 4, 5, 6, 7, 8, 9, 10, 11, 12, 13, 14, 15, 18, 19]) (wc := ALP d (b 17) (b 18) (ζ_8.1.1 70, ζ_8.1.1 72, ζ_8.1.2.2.2.2 18)) (wr := [(b 0, .inr (1, [.ref (b 1), .int (ζ_8.1.1 1), .int (ζ_8.1.1 2), .ref (b 2), .ref (b 3), .ref (b 4), va_rf (ζ_8.1.2.2.2.2 6 0), .ref (b 7), .ref (b 13), .ref (b 16), .int (ζ_8.1.1 10)])), (b 1, .inl (d 2, 500, .inl (ζ_8.1.2.2.1 1))), (b 2, .inl (d 5, 2, .inr (.inr (.inr (.inr (fun j => some (z.2.2 j))))))), (b 3, .inl (d 6, 5, .inr (.inr (.inr (.inr (fun j => some (z.2.2 (2 + j)))))))), (b 4, .inr (4, [.int (ζ_8.1.1 20), .long (ζ_8.1.2.1 21), .long (ζ_8.1.2.1 22), .long (ζ_8.1.2.1 23), .ref (b 5), .ref (b 6), .ref (b 0)])), (b 5, .inr (2, [.long (ζ_8.1.2.1 30), .long (ζ_8.1.2.1 31)])), (b 6, .inr (2, [.long (ζ_8.1.2.1 32), .long (ζ_8.1.2.1 33)])), (b 7, .inr (6, [.int (ζ_8.1.1 40), .int (ζ_8.1.1 41), .int (ζ_8.1.1 42), .int (ζ_8.1.1 43), .int (ζ_8.1.1 44), .int (ζ_8.1.1 45), .ref (b 8), .ref (b 9), .ref (b 10), .int (ζ_8.1.1 49), .ref (b 11), .ref (b 12), .int (ζ_8.1.1 52)])), (b 8, .inl (d 0, 16, .inl (ζ_8.1.2.2.1 46))), (b 9, .inl (d 1, 16, .inr (.inl (ζ_8.1.2.2.2.1 47)))), (b 10, .inl (d 1, 16, .inr (.inl (ζ_8.1.2.2.2.1 48)))), (b 11, .inl (d 0, 8, .inl (ζ_8.1.2.2.1 50))), (b 12, .inl (d 0, 8, .inl (ζ_8.1.2.2.1 51))), (b 13, .inr (8, [.int (ζ_8.1.1 60), .int (ζ_8.1.1 61), .int (ζ_8.1.1 62), .int (ζ_8.1.1 63), .ref (b 14), .ref (b 15), .int (ζ_8.1.1 66), .ref (b 17)])), (b 14, .inl (d 0, 100, .inl (ζ_8.1.2.2.1 64))), (b 15, .inl (d 3, 100, .inl (ζ_8.1.2.2.1 65))), (b 16, .inr (17, [.ref (b 19), .int (ζ_8.1.1 81), .int (ζ_8.1.1 82)])), (b 19, .inl (d 4, 17, .inr (.inr (.inr (.inr (ζ_8.1.2.2.2.2 19))))))]) (w := XW d z b ζ_8.1) (tl := ζ_8.2) hP rfl rfl
    have hDc := toT_D (isC := [16, 17]) (isR := [0, 1, 2, 3, 4, 5, 6, 7, 8, 9, 10, 11, 12, 13, 14, 15, 18, 19]) (wc := ALP d (b 17) (b 18) (ζ_8.1.1 70, ζ_8.1.1 72, ζ_8.1.2.2.2.2 18)) (wr := [(b 0, .inr (1, [.ref (b 1), .int (ζ_8.1.1 1), .int (ζ_8.1.1 2), .ref (b 2), .ref (b 3), .ref (b 4), va_rf (ζ_8.1.2.2.2.2 6 0), .ref (b 7), .ref (b 13), .ref (b 16), .int (ζ_8.1.1 10)])), (b 1, .inl (d 2, 500, .inl (ζ_8.1.2.2.1 1))), (b 2, .inl (d 5, 2, .inr (.inr (.inr (.inr (fun j => some (z.2.2 j))))))), (b 3, .inl (d 6, 5, .inr (.inr (.inr (.inr (fun j => some (z.2.2 (2 + j)))))))), (b 4, .inr (4, [.int (ζ_8.1.1 20), .long (ζ_8.1.2.1 21), .long (ζ_8.1.2.1 22), .long (ζ_8.1.2.1 23), .ref (b 5), .ref (b 6), .ref (b 0)])), (b 5, .inr (2, [.long (ζ_8.1.2.1 30), .long (ζ_8.1.2.1 31)])), (b 6, .inr (2, [.long (ζ_8.1.2.1 32), .long (ζ_8.1.2.1 33)])), (b 7, .inr (6, [.int (ζ_8.1.1 40), .int (ζ_8.1.1 41), .int (ζ_8.1.1 42), .int (ζ_8.1.1 43), .int (ζ_8.1.1 44), .int (ζ_8.1.1 45), .ref (b 8), .ref (b 9), .ref (b 10), .int (ζ_8.1.1 49), .ref (b 11), .ref (b 12), .int (ζ_8.1.1 52)])), (b 8, .inl (d 0, 16, .inl (ζ_8.1.2.2.1 46))), (b 9, .inl (d 1, 16, .inr (.inl (ζ_8.1.2.2.2.1 47)))), (b 10, .inl (d 1, 16, .inr (.inl (ζ_8.1.2.2.2.1 48)))), (b 11, .inl (d 0, 8, .inl (ζ_8.1.2.2.1 50))), (b 12, .inl (d 0, 8, .inl (ζ_8.1.2.2.1 51))), (b 13, .inr (8, [.int (ζ_8.1.1 60), .int (ζ_8.1.1 61), .int (ζ_8.1.1 62), .int (ζ_8.1.1 63), .ref (b 14), .ref (b 15), .int (ζ_8.1.1 66), .ref (b 17)])), (b 14, .inl (d 0, 100, .inl (ζ_8.1.2.2.1 64))), (b 15, .inl (d 3, 100, .inl (ζ_8.1.2.2.1 65))), (b 16, .inr (17, [.ref (b 19), .int (ζ_8.1.1 81), .int (ζ_8.1.1 82)])), (b 19, .inl (d 4, 17, .inr (.inr (.inr (.inr (ζ_8.1.2.2.2.2 19))))))]) (w := XW d z b ζ_8.1) (tl := ζ_8.2) hD rfl rfl rfl
    refine runW_i (va_runV (As := []) (rest := [.int r_7]) S (tJ14_size l D d z (b 17) (b 18) ([(b 0, .inr (1, [.ref (b 1), .int (ζ_8.1.1 1), .int (ζ_8.1.1 2), .ref (b 2), .ref (b 3), .ref (b 4), va_rf (ζ_8.1.2.2.2.2 6 0), .ref (b 7), .ref (b 13), .ref (b 16), .int (ζ_8.1.1 10)])), (b 1, .inl (d 2, 500, .inl (ζ_8.1.2.2.1 1))), (b 2, .inl (d 5, 2, .inr (.inr (.inr (.inr (fun j => some (z.2.2 j))))))), (b 3, .inl (d 6, 5, .inr (.inr (.inr (.inr (fun j => some (z.2.2 (2 + j)))))))), (b 4, .inr (4, [.int (ζ_8.1.1 20), .long (ζ_8.1.2.1 21), .long (ζ_8.1.2.1 22), .long (ζ_8.1.2.1 23), .ref (b 5), .ref (b 6), .ref (b 0)])), (b 5, .inr (2, [.long (ζ_8.1.2.1 30), .long (ζ_8.1.2.1 31)])), (b 6, .inr (2, [.long (ζ_8.1.2.1 32), .long (ζ_8.1.2.1 33)])), (b 7, .inr (6, [.int (ζ_8.1.1 40), .int (ζ_8.1.1 41), .int (ζ_8.1.1 42), .int (ζ_8.1.1 43), .int (ζ_8.1.1 44), .int (ζ_8.1.1 45), .ref (b 8), .ref (b 9), .ref (b 10), .int (ζ_8.1.1 49), .ref (b 11), .ref (b 12), .int (ζ_8.1.1 52)])), (b 8, .inl (d 0, 16, .inl (ζ_8.1.2.2.1 46))), (b 9, .inl (d 1, 16, .inr (.inl (ζ_8.1.2.2.2.1 47)))), (b 10, .inl (d 1, 16, .inr (.inl (ζ_8.1.2.2.2.1 48)))), (b 11, .inl (d 0, 8, .inl (ζ_8.1.2.2.1 50))), (b 12, .inl (d 0, 8, .inl (ζ_8.1.2.2.1 51))), (b 13, .inr (8, [.int (ζ_8.1.1 60), .int (ζ_8.1.1 61), .int (ζ_8.1.1 62), .int (ζ_8.1.1 63), .ref (b 14), .ref (b 15), .int (ζ_8.1.1 66), .ref (b 17)])), (b 14, .inl (d 0, 100, .inl (ζ_8.1.2.2.1 64))), (b 15, .inl (d 3, 100, .inl (ζ_8.1.2.2.1 65))), (b 16, .inr (17, [.ref (b 19), .int (ζ_8.1.1 81), .int (ζ_8.1.1 82)])), (b 19, .inl (d 4, 17, .inr (.inr (.inr (.inr (ζ_8.1.2.2.2.2 19))))))] ++ ζ_8.2) K (ζ_8.1.1 70, ζ_8.1.1 72, ζ_8.1.2.2.2.2 18) r_10 h_9 _) (cwV 0 hts (lw_V q1392 q938 q939 q118 q940) rfl rfl rfl (by decide +kernel) ⟨(Nat.le_of_ble_eq_true rfl), (Nat.le_of_ble_eq_true rfl)⟩) ⟨Pw.blind, (va_recv hK.1 hP (ci := 18) (q0 := 16) rfl rfl), fun U hU hW => Pw.at hK hPc hDc hZ hS hA hU hW⟩ rfl rfl hl.1 rfl (lv_room (Nat.le_of_ble_eq_true rfl)) dX0_store_29 ⟨(Nat.le_of_ble_eq_true rfl), (Nat.le_of_ble_eq_true rfl)⟩) hPc hDc hS hA ?_
    clear hP hD hS hPc hDc
    intro H locs hP hD hS
    replace hP := ofT_P (perm := [2, 3, 4, 5, 6, 7, 8, 9, 10, 11, 12, 13, 14, 15, 16, 17, 0, 1, 18, 19]) (w' := XW d z b ζ_8.1) hP rfl
    replace hD := ofT_D (perm := [2, 3, 4, 5, 6, 7, 8, 9, 10, 11, 12, 13, 14, 15, 16, 17, 0, 1, 18, 19]) (w' := XW d z b ζ_8.1) hD rfl rfl
    clear h_9
    refine lv_icmp_ge (tgt := 66) hx hb dX0_store_32 (by decide) (fun c_11 => ?_) (fun c_11 => ?_)
    · replace hf := itU_t hf c_11
      clear c_11
      refine lv_iconst (v := 0) hx hb dX0_store_66 (by decide) ?_
      refine lv_istore_n (lv' := [(2, .int (0 : Int32)), (1, .int r_7), (0, .ref (b 0))]) hx hb dX0_store_67 rfl hl (by decide) rfl (fun ls hl => ?_)
      refine lv_iload_n hx hb dX0_store_68 rfl (lv_at hl 0 rfl) ?_
      refine lv_if_ne (tgt := 90) hx hb dX0_store_69 (by decide) (fun c_12 => ?_) (fun c_12 => ?_)
      · replace hf := itU_f hf c_12
        clear c_12
        refine lv_aload_n hx hb dX0_store_90 rfl (lv_at hl 2 rfl) ?_
        obtain ⟨y_14, h_13, hf⟩ := b1u_some hf
        refine runW_vS (va_runV (As := []) (rest := []) S (tX0_remember l D d z b K ζ_8 y_14 h_13 _) (cwV 0 hts (lw_V q899 q901 qs20 q94 q902) rfl rfl rfl (by decide +kernel) ⟨(Nat.le_of_ble_eq_true rfl), (Nat.le_of_ble_eq_true rfl)⟩) ⟨Pw.blind, (va_recv hK.1 hP (ci := 1) (q0 := 0) rfl rfl), fun U hU hW => Pw.at hK hP hD hZ hS hA hU hW⟩ rfl rfl hl.1 rfl (lv_room (Nat.le_of_ble_eq_true rfl)) dX0_store_91 ⟨(Nat.le_of_ble_eq_true rfl), (Nat.le_of_ble_eq_true rfl)⟩) hP hD hS hA ?_
        clear hP hD hS
        intro u_16 _ H locs hP hD hS
        replace hf := hf u_16
        generalize y_14 u_16 = ζ_15 at hf hP hD ⊢
        clear h_13
        refine g_newT (w := XW d z b ζ_15.1) (tl := ζ_15.2) hx hb hts S.2.2.2.1 hK hP hD hS hA (ci := 16) in_X17 tyX17 tyX17_ok q1394 q1508 q129 rfl (fs := [.int (0 : Int32), .int (0 : Int32), .int (0 : Int32)]) (fun j hj => by rcases (show j = 0 ∨ j = 1 ∨ j = 2 by omega) with rfl | rfl | rfl <;> rfl) (Nat.le_of_ble_eq_true rfl) (Nat.le_of_ble_eq_true rfl) (w1 := fun q => (XW d z b ζ_15.1 ++ [(q, .inr (16, [.int (0 : Int32), .int (0 : Int32), .int (0 : Int32)]))])) (fun _ => rfl) dX0_store_94 ?_
        clear hP hD hS
        intro q_17 H hP hD hS
        replace hf := askU hf q_17
        replace hf := hf (fun _ => 0)
        refine lv_dup hx hb dX0_store_97 rfl ?_
        refine lv_aload_n hx hb dX0_store_98 rfl (lv_at hl 2 rfl) ?_
        refine g_get hx hb hts S.2.2.2.1 hK hP in_X0 0 rfl rfl 8 (by decide) q293 (fun _ h9 => h9) (v := .ref (b 13)) rfl dX0_store_99 ?_
        refine g_getN hx hb hts S.2.2.2.1 hK hP in_X8 13 rfl rfl 0 (by decide) q810 (fun _ h9 => h9) (v := .int (ζ_15.1.1 60)) rfl dX0_store_102 ?_
        refine lv_aload_n hx hb dX0_store_105 rfl (lv_at hl 2 rfl) ?_
        refine g_get hx hb hts S.2.2.2.1 hK hP in_X0 0 rfl rfl 8 (by decide) q293 (fun _ h9 => h9) (v := .ref (b 13)) rfl dX0_store_106 ?_
        refine g_getN hx hb hts S.2.2.2.1 hK hP in_X8 13 rfl rfl 1 (by decide) q812 (fun _ h9 => h9) (v := .int (ζ_15.1.1 61)) rfl dX0_store_109 ?_
        refine lv_aload_n hx hb dX0_store_112 rfl (lv_at hl 2 rfl) ?_
        obtain ⟨ζ_19, h_18, hf⟩ := b1_some hf
        obtain ⟨ζ_20, e_ζ_20⟩ : ∃ x, x = (xmrg ζ_15.1 ζ_19, ζ_15.2) := ⟨_, rfl⟩
        refine run_rS (w := (XW d z b ζ_15.1 ++ [(q_17, .inr (16, [.int (0 : Int32), .int (0 : Int32), .int (0 : Int32)]))])) (tl := ζ_15.2) (wr := [(b 17, .inr (18, [.int (ζ_15.1.1 70), .ref (b 18), .int (ζ_15.1.1 72)])), (b 18, .inl (d 4, 16, .inr (.inr (.inr (.inr (ζ_15.1.2.2.2.2 18)))))), (b 16, .inr (17, [.ref (b 19), .int (ζ_15.1.1 81), .int (ζ_15.1.1 82)])), (b 19, .inl (d 4, 17, .inr (.inr (.inr (.inr (ζ_15.1.2.2.2.2 19)))))), (q_17, .inr (16, [.int (0 : Int32), .int (0 : Int32), .int (0 : Int32)]))]) (w' := fun _ => (XW d z b ζ_20.1 ++ [(q_17, .inr (16, [.int (0 : Int32), .int (0 : Int32), .int (0 : Int32)]))])) (va_runV (As := []) (rest := [.int (ζ_15.1.1 61), .int (ζ_15.1.1 60), .ref q_17, .ref q_17]) S (tX0_here l D d z b (ζ_15.1.2.2.2.2 6 0) K ζ_15.1 ζ_19 h_18 _) (cwV 0 hts (lw_V q1093 q1095 qs30 q94 q1096) rfl rfl rfl (by decide +kernel) ⟨(Nat.le_of_ble_eq_true rfl), (Nat.le_of_ble_eq_true rfl)⟩) ⟨Pw.blind, (va_recv hK.1 hP (ci := 1) (q0 := 0) rfl rfl), fun U hU hW => Pw.cut (w := (XW d z b ζ_15.1 ++ [(q_17, .inr (16, [.int (0 : Int32), .int (0 : Int32), .int (0 : Int32)]))])) (tl := ζ_15.2) hK hP hD hZ hS hA [0, 1, 2, 3, 4, 5, 6, 7, 8, 9, 10, 11, 12, 13, 14, 15] rfl rfl hU hW⟩ rfl rfl hl.1 rfl (lv_room (Nat.le_of_ble_eq_true rfl)) dX0_store_113 ⟨(Nat.le_of_ble_eq_true rfl), (Nat.le_of_ble_eq_true rfl)⟩) hP hD hS hA [0, 1, 2, 3, 4, 5, 6, 7, 8, 9, 10, 11, 12, 13, 14, 15] [16, 17, 18, 19, 20] [5, 6, 7, 8, 9, 10, 11, 12, 13, 14, 15, 16, 17, 18, 19, 20, 0, 1, 2, 3, 4] rfl rfl rfl rfl (by decide) rfl (fun _ => by subst e_ζ_20; rfl) ?_
        clear hP hD hS
        intro _ _ H locs hP hD hS
        rw [show ζ_15.2 = ζ_20.2 from by subst e_ζ_20; rfl] at hP hD
        clear h_18
        replace hf := nm_some hf ζ_20 e_ζ_20
        clear e_ζ_20
        obtain ⟨r_22, ζ_23, h_21, hf⟩ := b2_some hf
        obtain ⟨ζ_24, e_ζ_24⟩ : ∃ x, x = (xmrg ζ_20.1 ζ_23, ζ_20.2) := ⟨_, rfl⟩
        refine run_i (w := (XW d z b ζ_20.1 ++ [(q_17, .inr (16, [.int (0 : Int32), .int (0 : Int32), .int (0 : Int32)]))])) (tl := ζ_20.2) (wr := [(b 17, .inr (18, [.int (ζ_20.1.1 70), .ref (b 18), .int (ζ_20.1.1 72)])), (b 18, .inl (d 4, 16, .inr (.inr (.inr (.inr (ζ_20.1.2.2.2.2 18)))))), (b 16, .inr (17, [.ref (b 19), .int (ζ_20.1.1 81), .int (ζ_20.1.1 82)])), (b 19, .inl (d 4, 17, .inr (.inr (.inr (.inr (ζ_20.1.2.2.2.2 19)))))), (q_17, .inr (16, [.int (0 : Int32), .int (0 : Int32), .int (0 : Int32)]))]) (w' := (XW d z b ζ_24.1 ++ [(q_17, .inr (16, [.int (0 : Int32), .int (0 : Int32), .int (0 : Int32)]))])) (va_runV (As := []) (rest := [.int (ζ_15.1.1 61), .int (ζ_15.1.1 60), .ref q_17, .ref q_17]) S (tX3_swr l D d z b (ζ_20.1.2.2.2.2 6 0) K ζ_20.1 r_22 ζ_23 h_21 _) (cwV 0 hts (lw_V q1119 q1120 q1121 q98 q1122) rfl rfl rfl (by decide +kernel) ⟨(Nat.le_of_ble_eq_true rfl), (Nat.le_of_ble_eq_true rfl)⟩) ⟨Pw.blind, (va_recv hK.1 hP (ci := 4) (q0 := 4) rfl rfl), fun U hU hW => Pw.cut (w := (XW d z b ζ_20.1 ++ [(q_17, .inr (16, [.int (0 : Int32), .int (0 : Int32), .int (0 : Int32)]))])) (tl := ζ_20.2) hK hP hD hZ hS hA [0, 1, 2, 3, 4, 5, 6, 7, 8, 9, 10, 11, 12, 13, 14, 15] rfl rfl hU hW⟩ rfl rfl hl.1 rfl (lv_room (Nat.le_of_ble_eq_true rfl)) dX0_store_116 ⟨(Nat.le_of_ble_eq_true rfl), (Nat.le_of_ble_eq_true rfl)⟩) hP hD hS hA [0, 1, 2, 3, 4, 5, 6, 7, 8, 9, 10, 11, 12, 13, 14, 15] [16, 17, 18, 19, 20] [5, 6, 7, 8, 9, 10, 11, 12, 13, 14, 15, 16, 17, 18, 19, 20, 0, 1, 2, 3, 4] rfl rfl rfl rfl (by decide) rfl (by subst e_ζ_24; rfl) ?_
        clear hP hD hS
        intro H locs hP hD hS
        rw [show ζ_20.2 = ζ_24.2 from by subst e_ζ_24; rfl] at hP hD
        clear h_21
        replace hf := nm_some hf ζ_24 e_ζ_24
        clear e_ζ_24
        obtain ⟨ζ_26, h_25, hf⟩ := b1_some hf
        refine run_v (w := (XW d z b ζ_24.1 ++ [(q_17, .inr (16, [.int (0 : Int32), .int (0 : Int32), .int (0 : Int32)]))])) (tl := ζ_24.2) (wr := [(b 0, .inr (1, [.ref (b 1), .int (ζ_24.1.1 1), .int (ζ_24.1.1 2), .ref (b 2), .ref (b 3), .ref (b 4), va_rf (ζ_24.1.2.2.2.2 6 0), .ref (b 7), .ref (b 13), .ref (b 16), .int (ζ_24.1.1 10)])), (b 1, .inl (d 2, 500, .inl (ζ_24.1.2.2.1 1))), (b 2, .inl (d 5, 2, .inr (.inr (.inr (.inr (fun j => some (z.2.2 j))))))), (b 3, .inl (d 6, 5, .inr (.inr (.inr (.inr (fun j => some (z.2.2 (2 + j)))))))), (b 4, .inr (4, [.int (ζ_24.1.1 20), .long (ζ_24.1.2.1 21), .long (ζ_24.1.2.1 22), .long (ζ_24.1.2.1 23), .ref (b 5), .ref (b 6), .ref (b 0)])), (b 5, .inr (2, [.long (ζ_24.1.2.1 30), .long (ζ_24.1.2.1 31)])), (b 6, .inr (2, [.long (ζ_24.1.2.1 32), .long (ζ_24.1.2.1 33)])), (b 7, .inr (6, [.int (ζ_24.1.1 40), .int (ζ_24.1.1 41), .int (ζ_24.1.1 42), .int (ζ_24.1.1 43), .int (ζ_24.1.1 44), .int (ζ_24.1.1 45), .ref (b 8), .ref (b 9), .ref (b 10), .int (ζ_24.1.1 49), .ref (b 11), .ref (b 12), .int (ζ_24.1.1 52)])), (b 8, .inl (d 0, 16, .inl (ζ_24.1.2.2.1 46))), (b 9, .inl (d 1, 16, .inr (.inl (ζ_24.1.2.2.2.1 47)))), (b 10, .inl (d 1, 16, .inr (.inl (ζ_24.1.2.2.2.1 48)))), (b 11, .inl (d 0, 8, .inl (ζ_24.1.2.2.1 50))), (b 12, .inl (d 0, 8, .inl (ζ_24.1.2.2.1 51))), (b 13, .inr (8, [.int (ζ_24.1.1 60), .int (ζ_24.1.1 61), .int (ζ_24.1.1 62), .int (ζ_24.1.1 63), .ref (b 14), .ref (b 15), .int (ζ_24.1.1 66), .ref (b 17)])), (b 14, .inl (d 0, 100, .inl (ζ_24.1.2.2.1 64))), (b 15, .inl (d 3, 100, .inl (ζ_24.1.2.2.1 65))), (b 17, .inr (18, [.int (ζ_24.1.1 70), .ref (b 18), .int (ζ_24.1.1 72)])), (b 18, .inl (d 4, 16, .inr (.inr (.inr (.inr (ζ_24.1.2.2.2.2 18)))))), (b 16, .inr (17, [.ref (b 19), .int (ζ_24.1.1 81), .int (ζ_24.1.1 82)])), (b 19, .inl (d 4, 17, .inr (.inr (.inr (.inr (ζ_24.1.2.2.2.2 19))))))]) (w' := (XW d z b ζ_24.1 ++ [(q_17, .inr (16, [.int ζ_26.1, .int ζ_26.2.1, .int ζ_26.2.2]))])) (va_runI (As := [.int (ζ_15.1.1 60), .int (ζ_15.1.1 61), .int r_22]) (rest := [.ref q_17]) S (tX17_init l D d z q_17 K (ζ_15.1.1 60) (ζ_15.1.1 61) r_22 ((0 : Int32), (0 : Int32), (0 : Int32)) ζ_26 h_25 _) (cwI 3 hts (lw_meth q1511) rfl rfl rfl (hts _ q129) (hts _ q1509) (hts _ q1510) rfl (by decide +kernel) ⟨(Nat.le_of_ble_eq_true rfl), (Nat.le_of_ble_eq_true rfl)⟩) ⟨Pw.blind, fun U hU hW => Pw.cut (w := (XW d z b ζ_24.1 ++ [(q_17, .inr (16, [.int (0 : Int32), .int (0 : Int32), .int (0 : Int32)]))])) (tl := ζ_24.2) hK hP hD hZ hS hA [20] rfl rfl hU hW⟩ rfl rfl hl.1 rfl (lv_room (Nat.le_of_ble_eq_true rfl)) dX0_store_119 ⟨(Nat.le_of_ble_eq_true rfl), (Nat.le_of_ble_eq_true rfl)⟩) hP hD hS hA [20] [0, 1, 2, 3, 4, 5, 6, 7, 8, 9, 10, 11, 12, 13, 14, 15, 16, 17, 18, 19] [0, 1, 2, 3, 4, 5, 6, 7, 8, 9, 10, 11, 12, 13, 14, 15, 16, 17, 18, 19, 20] rfl rfl rfl rfl (by decide) rfl rfl ?_
        clear hP hD hS
        intro H locs hP hD hS
        clear h_25
        refine lv_astore_n (lv' := [(3, .ref q_17), (2, .int (0 : Int32)), (1, .int r_7), (0, .ref (b 0))]) hx hb dX0_store_122 rfl hl (by decide) rfl (fun ls hl => ?_)
        refine lv_iload_n hx hb dX0_store_123 rfl (lv_at hl 1 rfl) ?_
        refine lv_if_eq (tgt := 143) hx hb dX0_store_124 (by decide) (fun c_27 => ?_) (fun c_27 => ?_)
        · replace hf := it_t hf c_27
          clear c_27
          refine lv_aload_n hx hb dX0_store_143 rfl (lv_at hl 3 rfl) ?_
          refine g_get hx hb hts S.2.2.2.1 hK hP in_X0 0 rfl rfl 8 (by decide) q293 (fun _ h9 => h9) (v := .ref (b 13)) rfl dX0_store_144 ?_
          refine g_getN hx hb hts S.2.2.2.1 hK hP in_X8 13 rfl rfl 7 (by decide) q823 (fun _ h9 => h9) (v := .ref (b 17)) rfl dX0_store_147 ?_
          refine lv_iload_n hx hb dX0_store_150 rfl (lv_at hl 2 rfl) ?_
          refine lv_aload_n hx hb dX0_store_151 rfl (lv_at hl 0 rfl) ?_
          obtain ⟨hes_28, hf⟩ := gaP_some hf
          obtain ⟨ζ_30, h_29, hf⟩ := b1_some hf
          obtain ⟨ζ_31, e_ζ_31⟩ : ∃ x, x = (xP (xI (xI ζ_24.1 70 ζ_30.1) 72 ζ_30.2.1) 18 ζ_30.2.2, ζ_24.2) := ⟨_, rfl⟩
          have hPc := toT_P (isC := [16, 17]) (isR := [0, 1, 2, 3, 4, 5, 6, 7, 8, 9, 10, 11, 12, 13, 14, 15, 18, 19, 20]) (wc := ALP d (b 17) (b 18) (ζ_24.1.1 70, ζ_24.1.1 72, ζ_24.1.2.2.2.2 18)) (wr := [(b 0, .inr (1, [.ref (b 1), .int (ζ_24.1.1 1), .int (ζ_24.1.1 2), .ref (b 2), .ref (b 3), .ref (b 4), va_rf (ζ_24.1.2.2.2.2 6 0), .ref (b 7), .ref (b 13), .ref (b 16), .int (ζ_24.1.1 10)])), (b 1, .inl (d 2, 500, .inl (ζ_24.1.2.2.1 1))), (b 2, .inl (d 5, 2, .inr (.inr (.inr (.inr (fun j => some (z.2.2 j))))))), (b 3, .inl (d 6, 5, .inr (.inr (.inr (.inr (fun j => some (z.2.2 (2 + j)))))))), (b 4, .inr (4, [.int (ζ_24.1.1 20), .long (ζ_24.1.2.1 21), .long (ζ_24.1.2.1 22), .long (ζ_24.1.2.1 23), .ref (b 5), .ref (b 6), .ref (b 0)])), (b 5, .inr (2, [.long (ζ_24.1.2.1 30), .long (ζ_24.1.2.1 31)])), (b 6, .inr (2, [.long (ζ_24.1.2.1 32), .long (ζ_24.1.2.1 33)])), (b 7, .inr (6, [.int (ζ_24.1.1 40), .int (ζ_24.1.1 41), .int (ζ_24.1.1 42), .int (ζ_24.1.1 43), .int (ζ_24.1.1 44), .int (ζ_24.1.1 45), .ref (b 8), .ref (b 9), .ref (b 10), .int (ζ_24.1.1 49), .ref (b 11), .ref (b 12), .int (ζ_24.1.1 52)])), (b 8, .inl (d 0, 16, .inl (ζ_24.1.2.2.1 46))), (b 9, .inl (d 1, 16, .inr (.inl (ζ_24.1.2.2.2.1 47)))), (b 10, .inl (d 1, 16, .inr (.inl (ζ_24.1.2.2.2.1 48)))), (b 11, .inl (d 0, 8, .inl (ζ_24.1.2.2.1 50))), (b 12, .inl (d 0, 8, .inl (ζ_24.1.2.2.1 51))), (b 13, .inr (8, [.int (ζ_24.1.1 60), .int (ζ_24.1.1 61), .int (ζ_24.1.1 62), .int (ζ_24.1.1 63), .ref (b 14), .ref (b 15), .int (ζ_24.1.1 66), .ref (b 17)])), (b 14, .inl (d 0, 100, .inl (ζ_24.1.2.2.1 64))), (b 15, .inl (d 3, 100, .inl (ζ_24.1.2.2.1 65))), (b 16, .inr (17, [.ref (b 19), .int (ζ_24.1.1 81), .int (ζ_24.1.1 82)])), (b 19, .inl (d 4, 17, .inr (.inr (.inr (.inr (ζ_24.1.2.2.2.2 19)))))), (q_17, .inr (16, [.int ζ_26.1, .int ζ_26.2.1, .int ζ_26.2.2]))]) (w := (XW d z b ζ_24.1 ++ [(q_17, .inr (16, [.int ζ_26.1, .int ζ_26.2.1, .int ζ_26.2.2]))])) (tl := ζ_24.2) hP rfl rfl
          have hDc := toT_D (isC := [16, 17]) (isR := [0, 1, 2, 3, 4, 5, 6, 7, 8, 9, 10, 11, 12, 13, 14, 15, 18, 19, 20]) (wc := ALP d (b 17) (b 18) (ζ_24.1.1 70, ζ_24.1.1 72, ζ_24.1.2.2.2.2 18)) (wr := [(b 0, .inr (1, [.ref (b 1), .int (ζ_24.1.1 1), .int (ζ_24.1.1 2), .ref (b 2), .ref (b 3), .ref (b 4), va_rf (ζ_24.1.2.2.2.2 6 0), .ref (b 7), .ref (b 13), .ref (b 16), .int (ζ_24.1.1 10)])), (b 1, .inl (d 2, 500, .inl (ζ_24.1.2.2.1 1))), (b 2, .inl (d 5, 2, .inr (.inr (.inr (.inr (fun j => some (z.2.2 j))))))), (b 3, .inl (d 6, 5, .inr (.inr (.inr (.inr (fun j => some (z.2.2 (2 + j)))))))), (b 4, .inr (4, [.int (ζ_24.1.1 20), .long (ζ_24.1.2.1 21), .long (ζ_24.1.2.1 22), .long (ζ_24.1.2.1 23), .ref (b 5), .ref (b 6), .ref (b 0)])), (b 5, .inr (2, [.long (ζ_24.1.2.1 30), .long (ζ_24.1.2.1 31)])), (b 6, .inr (2, [.long (ζ_24.1.2.1 32), .long (ζ_24.1.2.1 33)])), (b 7, .inr (6, [.int (ζ_24.1.1 40), .int (ζ_24.1.1 41), .int (ζ_24.1.1 42), .int (ζ_24.1.1 43), .int (ζ_24.1.1 44), .int (ζ_24.1.1 45), .ref (b 8), .ref (b 9), .ref (b 10), .int (ζ_24.1.1 49), .ref (b 11), .ref (b 12), .int (ζ_24.1.1 52)])), (b 8, .inl (d 0, 16, .inl (ζ_24.1.2.2.1 46))), (b 9, .inl (d 1, 16, .inr (.inl (ζ_24.1.2.2.2.1 47)))), (b 10, .inl (d 1, 16, .inr (.inl (ζ_24.1.2.2.2.1 48)))), (b 11, .inl (d 0, 8, .inl (ζ_24.1.2.2.1 50))), (b 12, .inl (d 0, 8, .inl (ζ_24.1.2.2.1 51))), (b 13, .inr (8, [.int (ζ_24.1.1 60), .int (ζ_24.1.1 61), .int (ζ_24.1.1 62), .int (ζ_24.1.1 63), .ref (b 14), .ref (b 15), .int (ζ_24.1.1 66), .ref (b 17)])), (b 14, .inl (d 0, 100, .inl (ζ_24.1.2.2.1 64))), (b 15, .inl (d 3, 100, .inl (ζ_24.1.2.2.1 65))), (b 16, .inr (17, [.ref (b 19), .int (ζ_24.1.1 81), .int (ζ_24.1.1 82)])), (b 19, .inl (d 4, 17, .inr (.inr (.inr (.inr (ζ_24.1.2.2.2.2 19)))))), (q_17, .inr (16, [.int ζ_26.1, .int ζ_26.2.1, .int ζ_26.2.2]))]) (w := (XW d z b ζ_24.1 ++ [(q_17, .inr (16, [.int ζ_26.1, .int ζ_26.2.1, .int ζ_26.2.2]))])) (tl := ζ_24.2) hD rfl rfl rfl
          refine runW_v (va_runV (As := [.int r_7, .ref q_17]) (rest := []) S (tJ14_add_3 l D d z (b 17) (b 18) ([(b 0, .inr (1, [.ref (b 1), .int (ζ_24.1.1 1), .int (ζ_24.1.1 2), .ref (b 2), .ref (b 3), .ref (b 4), va_rf (ζ_24.1.2.2.2.2 6 0), .ref (b 7), .ref (b 13), .ref (b 16), .int (ζ_24.1.1 10)])), (b 1, .inl (d 2, 500, .inl (ζ_24.1.2.2.1 1))), (b 2, .inl (d 5, 2, .inr (.inr (.inr (.inr (fun j => some (z.2.2 j))))))), (b 3, .inl (d 6, 5, .inr (.inr (.inr (.inr (fun j => some (z.2.2 (2 + j)))))))), (b 4, .inr (4, [.int (ζ_24.1.1 20), .long (ζ_24.1.2.1 21), .long (ζ_24.1.2.1 22), .long (ζ_24.1.2.1 23), .ref (b 5), .ref (b 6), .ref (b 0)])), (b 5, .inr (2, [.long (ζ_24.1.2.1 30), .long (ζ_24.1.2.1 31)])), (b 6, .inr (2, [.long (ζ_24.1.2.1 32), .long (ζ_24.1.2.1 33)])), (b 7, .inr (6, [.int (ζ_24.1.1 40), .int (ζ_24.1.1 41), .int (ζ_24.1.1 42), .int (ζ_24.1.1 43), .int (ζ_24.1.1 44), .int (ζ_24.1.1 45), .ref (b 8), .ref (b 9), .ref (b 10), .int (ζ_24.1.1 49), .ref (b 11), .ref (b 12), .int (ζ_24.1.1 52)])), (b 8, .inl (d 0, 16, .inl (ζ_24.1.2.2.1 46))), (b 9, .inl (d 1, 16, .inr (.inl (ζ_24.1.2.2.2.1 47)))), (b 10, .inl (d 1, 16, .inr (.inl (ζ_24.1.2.2.2.1 48)))), (b 11, .inl (d 0, 8, .inl (ζ_24.1.2.2.1 50))), (b 12, .inl (d 0, 8, .inl (ζ_24.1.2.2.1 51))), (b 13, .inr (8, [.int (ζ_24.1.1 60), .int (ζ_24.1.1 61), .int (ζ_24.1.1 62), .int (ζ_24.1.1 63), .ref (b 14), .ref (b 15), .int (ζ_24.1.1 66), .ref (b 17)])), (b 14, .inl (d 0, 100, .inl (ζ_24.1.2.2.1 64))), (b 15, .inl (d 3, 100, .inl (ζ_24.1.2.2.1 65))), (b 16, .inr (17, [.ref (b 19), .int (ζ_24.1.1 81), .int (ζ_24.1.1 82)])), (b 19, .inl (d 4, 17, .inr (.inr (.inr (.inr (ζ_24.1.2.2.2.2 19)))))), (q_17, .inr (16, [.int ζ_26.1, .int ζ_26.2.1, .int ζ_26.2.2]))] ++ ζ_24.2) K r_7 q_17 (ζ_24.1.1 70, ζ_24.1.1 72, ζ_24.1.2.2.2.2 18) ζ_30 h_29 ⟨_, List.mem_append_left _ (List.mem_of_getElem? (i := 18) rfl)⟩ (fun j q hq => (hes_28 j q hq).imp fun _ h => List.mem_append_right _ h) _) (cwV 2 hts (lw_V q1530 q1531 q1532 q118 q1533) rfl rfl rfl (by decide +kernel) ⟨(Nat.le_of_ble_eq_true rfl), (Nat.le_of_ble_eq_true rfl)⟩) ⟨Pw.blind, (va_recv hK.1 hP (ci := 18) (q0 := 16) rfl rfl), fun U hU hW => Pw.at hK hPc hDc hZ hS hA hU hW⟩ rfl rfl hl.1 rfl (lv_room (Nat.le_of_ble_eq_true rfl)) dX0_store_152 ⟨(Nat.le_of_ble_eq_true rfl), (Nat.le_of_ble_eq_true rfl)⟩) hPc hDc hS hA ?_
          clear hP hD hS hPc hDc
          intro H locs hP hD hS
          replace hP := ofT_P (perm := [2, 3, 4, 5, 6, 7, 8, 9, 10, 11, 12, 13, 14, 15, 16, 17, 0, 1, 18, 19, 20]) (w' := (XW d z b ζ_31.1 ++ [(q_17, .inr (16, [.int ζ_26.1, .int ζ_26.2.1, .int ζ_26.2.2]))])) hP (by subst e_ζ_31; rfl)
          replace hD := ofT_D (perm := [2, 3, 4, 5, 6, 7, 8, 9, 10, 11, 12, 13, 14, 15, 16, 17, 0, 1, 18, 19, 20]) (w' := (XW d z b ζ_31.1 ++ [(q_17, .inr (16, [.int ζ_26.1, .int ζ_26.2.1, .int ζ_26.2.2]))])) hD rfl (by subst e_ζ_31; rfl)
          rw [show ζ_24.2 = ζ_31.2 from by subst e_ζ_31; rfl] at hP hD
          clear h_29
          replace hf := nm_some hf ζ_31 e_ζ_31
          clear e_ζ_31
          refine lv_iload_n hx hb dX0_store_155 rfl (lv_at hl 2 rfl) ?_
          refine W.widen (k := 6) (n := 230) (Nat.le_of_ble_eq_true rfl) (Nat.le_of_ble_eq_true rfl) ?_
          obtain ⟨ζ_32, e_ζ_32⟩ : ∃ x, x = (ζ_31.1, [(q_17, .inr (16, [.int ζ_26.1, .int ζ_26.2.1, .int ζ_26.2.2]))] ++ ζ_31.2) := ⟨_, rfl⟩
          replace hf := nm_some hf ζ_32 e_ζ_32
          replace hP := kp_P (w := XW d z b ζ_31.1) (ks := [(q_17, .inr (16, [.int ζ_26.1, .int ζ_26.2.1, .int ζ_26.2.2]))]) (w' := XW d z b ζ_32.1) (t2 := ζ_32.2) hP (by subst e_ζ_32; rfl) (by subst e_ζ_32; rfl)
          replace hD := kp_D (w := XW d z b ζ_31.1) (ks := [(q_17, .inr (16, [.int ζ_26.1, .int ζ_26.2.1, .int ζ_26.2.2]))]) (w' := XW d z b ζ_32.1) (t2 := ζ_32.2) hD (by subst e_ζ_32; rfl) (by subst e_ζ_32; rfl)
          clear e_ζ_32
          exact hret _ _ _ _ _ _ _ hf dX0_store_156 hP hD hS
        · replace hf := it_f hf c_27
          clear c_27
          refine lv_aload_n hx hb dX0_store_127 rfl (lv_at hl 3 rfl) ?_
          refine g_get hx hb hts S.2.2.2.1 hK hP in_X0 0 rfl rfl 8 (by decide) q293 (fun _ h9 => h9) (v := .ref (b 13)) rfl dX0_store_128 ?_
          refine g_getN hx hb hts S.2.2.2.1 hK hP in_X8 13 rfl rfl 7 (by decide) q823 (fun _ h9 => h9) (v := .ref (b 17)) rfl dX0_store_131 ?_
          refine lv_iload_n hx hb dX0_store_134 rfl (lv_at hl 2 rfl) ?_
          refine lv_aload_n hx hb dX0_store_135 rfl (lv_at hl 0 rfl) ?_
          obtain ⟨r_34, ζ_35, h_33, hf⟩ := b2_some hf
          obtain ⟨ζ_36, e_ζ_36⟩ : ∃ x, x = (xP (xI (xI ζ_24.1 70 ζ_35.1) 72 ζ_35.2.1) 18 ζ_35.2.2, ζ_24.2) := ⟨_, rfl⟩
          have hPc := toT_P (isC := [16, 17]) (isR := [0, 1, 2, 3, 4, 5, 6, 7, 8, 9, 10, 11, 12, 13, 14, 15, 18, 19, 20]) (wc := ALP d (b 17) (b 18) (ζ_24.1.1 70, ζ_24.1.1 72, ζ_24.1.2.2.2.2 18)) (wr := [(b 0, .inr (1, [.ref (b 1), .int (ζ_24.1.1 1), .int (ζ_24.1.1 2), .ref (b 2), .ref (b 3), .ref (b 4), va_rf (ζ_24.1.2.2.2.2 6 0), .ref (b 7), .ref (b 13), .ref (b 16), .int (ζ_24.1.1 10)])), (b 1, .inl (d 2, 500, .inl (ζ_24.1.2.2.1 1))), (b 2, .inl (d 5, 2, .inr (.inr (.inr (.inr (fun j => some (z.2.2 j))))))), (b 3, .inl (d 6, 5, .inr (.inr (.inr (.inr (fun j => some (z.2.2 (2 + j)))))))), (b 4, .inr (4, [.int (ζ_24.1.1 20), .long (ζ_24.1.2.1 21), .long (ζ_24.1.2.1 22), .long (ζ_24.1.2.1 23), .ref (b 5), .ref (b 6), .ref (b 0)])), (b 5, .inr (2, [.long (ζ_24.1.2.1 30), .long (ζ_24.1.2.1 31)])), (b 6, .inr (2, [.long (ζ_24.1.2.1 32), .long (ζ_24.1.2.1 33)])), (b 7, .inr (6, [.int (ζ_24.1.1 40), .int (ζ_24.1.1 41), .int (ζ_24.1.1 42), .int (ζ_24.1.1 43), .int (ζ_24.1.1 44), .int (ζ_24.1.1 45), .ref (b 8), .ref (b 9), .ref (b 10), .int (ζ_24.1.1 49), .ref (b 11), .ref (b 12), .int (ζ_24.1.1 52)])), (b 8, .inl (d 0, 16, .inl (ζ_24.1.2.2.1 46))), (b 9, .inl (d 1, 16, .inr (.inl (ζ_24.1.2.2.2.1 47)))), (b 10, .inl (d 1, 16, .inr (.inl (ζ_24.1.2.2.2.1 48)))), (b 11, .inl (d 0, 8, .inl (ζ_24.1.2.2.1 50))), (b 12, .inl (d 0, 8, .inl (ζ_24.1.2.2.1 51))), (b 13, .inr (8, [.int (ζ_24.1.1 60), .int (ζ_24.1.1 61), .int (ζ_24.1.1 62), .int (ζ_24.1.1 63), .ref (b 14), .ref (b 15), .int (ζ_24.1.1 66), .ref (b 17)])), (b 14, .inl (d 0, 100, .inl (ζ_24.1.2.2.1 64))), (b 15, .inl (d 3, 100, .inl (ζ_24.1.2.2.1 65))), (b 16, .inr (17, [.ref (b 19), .int (ζ_24.1.1 81), .int (ζ_24.1.1 82)])), (b 19, .inl (d 4, 17, .inr (.inr (.inr (.inr (ζ_24.1.2.2.2.2 19)))))), (q_17, .inr (16, [.int ζ_26.1, .int ζ_26.2.1, .int ζ_26.2.2]))]) (w := (XW d z b ζ_24.1 ++ [(q_17, .inr (16, [.int ζ_26.1, .int ζ_26.2.1, .int ζ_26.2.2]))])) (tl := ζ_24.2) hP rfl rfl
          have hDc := toT_D (isC := [16, 17]) (isR := [0, 1, 2, 3, 4, 5, 6, 7, 8, 9, 10, 11, 12, 13, 14, 15, 18, 19, 20]) (wc := ALP d (b 17) (b 18) (ζ_24.1.1 70, ζ_24.1.1 72, ζ_24.1.2.2.2.2 18)) (wr := [(b 0, .inr (1, [.ref (b 1), .int (ζ_24.1.1 1), .int (ζ_24.1.1 2), .ref (b 2), .ref (b 3), .ref (b 4), va_rf (ζ_24.1.2.2.2.2 6 0), .ref (b 7), .ref (b 13), .ref (b 16), .int (ζ_24.1.1 10)])), (b 1, .inl (d 2, 500, .inl (ζ_24.1.2.2.1 1))), (b 2, .inl (d 5, 2, .inr (.inr (.inr (.inr (fun j => some (z.2.2 j))))))), (b 3, .inl (d 6, 5, .inr (.inr (.inr (.inr (fun j => some (z.2.2 (2 + j)))))))), (b 4, .inr (4, [.int (ζ_24.1.1 20), .long (ζ_24.1.2.1 21), .long (ζ_24.1.2.1 22), .long (ζ_24.1.2.1 23), .ref (b 5), .ref (b 6), .ref (b 0)])), (b 5, .inr (2, [.long (ζ_24.1.2.1 30), .long (ζ_24.1.2.1 31)])), (b 6, .inr (2, [.long (ζ_24.1.2.1 32), .long (ζ_24.1.2.1 33)])), (b 7, .inr (6, [.int (ζ_24.1.1 40), .int (ζ_24.1.1 41), .int (ζ_24.1.1 42), .int (ζ_24.1.1 43), .int (ζ_24.1.1 44), .int (ζ_24.1.1 45), .ref (b 8), .ref (b 9), .ref (b 10), .int (ζ_24.1.1 49), .ref (b 11), .ref (b 12), .int (ζ_24.1.1 52)])), (b 8, .inl (d 0, 16, .inl (ζ_24.1.2.2.1 46))), (b 9, .inl (d 1, 16, .inr (.inl (ζ_24.1.2.2.2.1 47)))), (b 10, .inl (d 1, 16, .inr (.inl (ζ_24.1.2.2.2.1 48)))), (b 11, .inl (d 0, 8, .inl (ζ_24.1.2.2.1 50))), (b 12, .inl (d 0, 8, .inl (ζ_24.1.2.2.1 51))), (b 13, .inr (8, [.int (ζ_24.1.1 60), .int (ζ_24.1.1 61), .int (ζ_24.1.1 62), .int (ζ_24.1.1 63), .ref (b 14), .ref (b 15), .int (ζ_24.1.1 66), .ref (b 17)])), (b 14, .inl (d 0, 100, .inl (ζ_24.1.2.2.1 64))), (b 15, .inl (d 3, 100, .inl (ζ_24.1.2.2.1 65))), (b 16, .inr (17, [.ref (b 19), .int (ζ_24.1.1 81), .int (ζ_24.1.1 82)])), (b 19, .inl (d 4, 17, .inr (.inr (.inr (.inr (ζ_24.1.2.2.2.2 19)))))), (q_17, .inr (16, [.int ζ_26.1, .int ζ_26.2.1, .int ζ_26.2.2]))]) (w := (XW d z b ζ_24.1 ++ [(q_17, .inr (16, [.int ζ_26.1, .int ζ_26.2.1, .int ζ_26.2.2]))])) (tl := ζ_24.2) hD rfl rfl rfl
          refine runW_rS (va_runV (As := [.int r_7, .ref q_17]) (rest := []) S (tJ14_set l D d z (b 17) (b 18) ([(b 0, .inr (1, [.ref (b 1), .int (ζ_24.1.1 1), .int (ζ_24.1.1 2), .ref (b 2), .ref (b 3), .ref (b 4), va_rf (ζ_24.1.2.2.2.2 6 0), .ref (b 7), .ref (b 13), .ref (b 16), .int (ζ_24.1.1 10)])), (b 1, .inl (d 2, 500, .inl (ζ_24.1.2.2.1 1))), (b 2, .inl (d 5, 2, .inr (.inr (.inr (.inr (fun j => some (z.2.2 j))))))), (b 3, .inl (d 6, 5, .inr (.inr (.inr (.inr (fun j => some (z.2.2 (2 + j)))))))), (b 4, .inr (4, [.int (ζ_24.1.1 20), .long (ζ_24.1.2.1 21), .long (ζ_24.1.2.1 22), .long (ζ_24.1.2.1 23), .ref (b 5), .ref (b 6), .ref (b 0)])), (b 5, .inr (2, [.long (ζ_24.1.2.1 30), .long (ζ_24.1.2.1 31)])), (b 6, .inr (2, [.long (ζ_24.1.2.1 32), .long (ζ_24.1.2.1 33)])), (b 7, .inr (6, [.int (ζ_24.1.1 40), .int (ζ_24.1.1 41), .int (ζ_24.1.1 42), .int (ζ_24.1.1 43), .int (ζ_24.1.1 44), .int (ζ_24.1.1 45), .ref (b 8), .ref (b 9), .ref (b 10), .int (ζ_24.1.1 49), .ref (b 11), .ref (b 12), .int (ζ_24.1.1 52)])), (b 8, .inl (d 0, 16, .inl (ζ_24.1.2.2.1 46))), (b 9, .inl (d 1, 16, .inr (.inl (ζ_24.1.2.2.2.1 47)))), (b 10, .inl (d 1, 16, .inr (.inl (ζ_24.1.2.2.2.1 48)))), (b 11, .inl (d 0, 8, .inl (ζ_24.1.2.2.1 50))), (b 12, .inl (d 0, 8, .inl (ζ_24.1.2.2.1 51))), (b 13, .inr (8, [.int (ζ_24.1.1 60), .int (ζ_24.1.1 61), .int (ζ_24.1.1 62), .int (ζ_24.1.1 63), .ref (b 14), .ref (b 15), .int (ζ_24.1.1 66), .ref (b 17)])), (b 14, .inl (d 0, 100, .inl (ζ_24.1.2.2.1 64))), (b 15, .inl (d 3, 100, .inl (ζ_24.1.2.2.1 65))), (b 16, .inr (17, [.ref (b 19), .int (ζ_24.1.1 81), .int (ζ_24.1.1 82)])), (b 19, .inl (d 4, 17, .inr (.inr (.inr (.inr (ζ_24.1.2.2.2.2 19)))))), (q_17, .inr (16, [.int ζ_26.1, .int ζ_26.2.1, .int ζ_26.2.2]))] ++ ζ_24.2) K r_7 q_17 (ζ_24.1.1 70, ζ_24.1.1 72, ζ_24.1.2.2.2.2 18) r_34 ζ_35 h_33 ⟨_, List.mem_append_left _ (List.mem_of_getElem? (i := 18) rfl)⟩ _) (cwV 2 hts (lw_V q1526 q1527 q1528 q118 q1529) rfl rfl rfl (by decide +kernel) ⟨(Nat.le_of_ble_eq_true rfl), (Nat.le_of_ble_eq_true rfl)⟩) ⟨Pw.blind, (va_recv hK.1 hP (ci := 18) (q0 := 16) rfl rfl), fun U hU hW => Pw.at hK hPc hDc hZ hS hA hU hW⟩ rfl rfl hl.1 rfl (lv_room (Nat.le_of_ble_eq_true rfl)) dX0_store_136 ⟨(Nat.le_of_ble_eq_true rfl), (Nat.le_of_ble_eq_true rfl)⟩) hPc hDc hS hA ?_
          clear hP hD hS hPc hDc
          intro _ _ H locs hP hD hS
          replace hP := ofT_P (perm := [2, 3, 4, 5, 6, 7, 8, 9, 10, 11, 12, 13, 14, 15, 16, 17, 0, 1, 18, 19, 20]) (w' := (XW d z b ζ_36.1 ++ [(q_17, .inr (16, [.int ζ_26.1, .int ζ_26.2.1, .int ζ_26.2.2]))])) hP (by subst e_ζ_36; rfl)
          replace hD := ofT_D (perm := [2, 3, 4, 5, 6, 7, 8, 9, 10, 11, 12, 13, 14, 15, 16, 17, 0, 1, 18, 19, 20]) (w' := (XW d z b ζ_36.1 ++ [(q_17, .inr (16, [.int ζ_26.1, .int ζ_26.2.1, .int ζ_26.2.2]))])) hD rfl (by subst e_ζ_36; rfl)
          rw [show ζ_24.2 = ζ_36.2 from by subst e_ζ_36; rfl] at hP hD
          clear h_33
          replace hf := nm_some hf ζ_36 e_ζ_36
          clear e_ζ_36
          refine lv_pop hx hb dX0_store_139 rfl ?_
          refine lv_goto (tgt := 155) hx hb dX0_store_140 (by decide) ?_
          refine lv_iload_n hx hb dX0_store_155 rfl (lv_at hl 2 rfl) ?_
          refine W.widen (k := 6) (n := 230) (Nat.le_of_ble_eq_true rfl) (Nat.le_of_ble_eq_true rfl) ?_
          obtain ⟨ζ_37, e_ζ_37⟩ : ∃ x, x = (ζ_36.1, [(q_17, .inr (16, [.int ζ_26.1, .int ζ_26.2.1, .int ζ_26.2.2]))] ++ ζ_36.2) := ⟨_, rfl⟩
          replace hf := nm_some hf ζ_37 e_ζ_37
          replace hP := kp_P (w := XW d z b ζ_36.1) (ks := [(q_17, .inr (16, [.int ζ_26.1, .int ζ_26.2.1, .int ζ_26.2.2]))]) (w' := XW d z b ζ_37.1) (t2 := ζ_37.2) hP (by subst e_ζ_37; rfl) (by subst e_ζ_37; rfl)
          replace hD := kp_D (w := XW d z b ζ_36.1) (ks := [(q_17, .inr (16, [.int ζ_26.1, .int ζ_26.2.1, .int ζ_26.2.2]))]) (w' := XW d z b ζ_37.1) (t2 := ζ_37.2) hD (by subst e_ζ_37; rfl) (by subst e_ζ_37; rfl)
          clear e_ζ_37
          exact hret _ _ _ _ _ _ _ hf dX0_store_156 hP hD hS
      · replace hf := itU_t hf c_12
        clear c_12
        refine lv_aload_n hx hb dX0_store_72 rfl (lv_at hl 2 rfl) ?_
        refine g_get hx hb hts S.2.2.2.1 hK hP in_X0 0 rfl rfl 8 (by decide) q293 (fun _ h9 => h9) (v := .ref (b 13)) rfl dX0_store_73 ?_
        refine g_getN hx hb hts S.2.2.2.1 hK hP in_X8 13 rfl rfl 7 (by decide) q823 (fun _ h9 => h9) (v := .ref (b 17)) rfl dX0_store_76 ?_
        obtain ⟨r_39, h_38, hf⟩ := b1U hf
        have hPc := toT_P (isC := [16, 17]) (isR := [0, 1, 2, 3, 4, 5, 6, 7, 8, 9, 10, 11, 12, 13, 14, 15, 18, 19]) (wc := ALP d (b 17) (b 18) (ζ_8.1.1 70, ζ_8.1.1 72, ζ_8.1.2.2.2.2 18)) (wr := [(b 0, .inr (1, [.ref (b 1), .int (ζ_8.1.1 1), .int (ζ_8.1.1 2), .ref (b 2), .ref (b 3), .ref (b 4), va_rf (ζ_8.1.2.2.2.2 6 0), .ref (b 7), .ref (b 13), .ref (b 16), .int (ζ_8.1.1 10)])), (b 1, .inl (d 2, 500, .inl (ζ_8.1.2.2.1 1))), (b 2, .inl (d 5, 2, .inr (.inr (.inr (.inr (fun j => some (z.2.2 j))))))), (b 3, .inl (d 6, 5, .inr (.inr (.inr (.inr (fun j => some (z.2.2 (2 + j)))))))), (b 4, .inr (4, [.int (ζ_8.1.1 20), .long (ζ_8.1.2.1 21), .long (ζ_8.1.2.1 22), .long (ζ_8.1.2.1 23), .ref (b 5), .ref (b 6), .ref (b 0)])), (b 5, .inr (2, [.long (ζ_8.1.2.1 30), .long (ζ_8.1.2.1 31)])), (b 6, .inr (2, [.long (ζ_8.1.2.1 32), .long (ζ_8.1.2.1 33)])), (b 7, .inr (6, [.int (ζ_8.1.1 40), .int (ζ_8.1.1 41), .int (ζ_8.1.1 42), .int (ζ_8.1.1 43), .int (ζ_8.1.1 44), .int (ζ_8.1.1 45), .ref (b 8), .ref (b 9), .ref (b 10), .int (ζ_8.1.1 49), .ref (b 11), .ref (b 12), .int (ζ_8.1.1 52)])), (b 8, .inl (d 0, 16, .inl (ζ_8.1.2.2.1 46))), (b 9, .inl (d 1, 16, .inr (.inl (ζ_8.1.2.2.2.1 47)))), (b 10, .inl (d 1, 16, .inr (.inl (ζ_8.1.2.2.2.1 48)))), (b 11, .inl (d 0, 8, .inl (ζ_8.1.2.2.1 50))), (b 12, .inl (d 0, 8, .inl (ζ_8.1.2.2.1 51))), (b 13, .inr (8, [.int (ζ_8.1.1 60), .int (ζ_8.1.1 61), .int (ζ_8.1.1 62), .int (ζ_8.1.1 63), .ref (b 14), .ref (b 15), .int (ζ_8.1.1 66), .ref (b 17)])), (b 14, .inl (d 0, 100, .inl (ζ_8.1.2.2.1 64))), (b 15, .inl (d 3, 100, .inl (ζ_8.1.2.2.1 65))), (b 16, .inr (17, [.ref (b 19), .int (ζ_8.1.1 81), .int (ζ_8.1.1 82)])), (b 19, .inl (d 4, 17, .inr (.inr (.inr (.inr (ζ_8.1.2.2.2.2 19))))))]) (w := XW d z b ζ_8.1) (tl := ζ_8.2) hP rfl rfl
        have hDc := toT_D (isC := [16, 17]) (isR := [0, 1, 2, 3, 4, 5, 6, 7, 8, 9, 10, 11, 12, 13, 14, 15, 18, 19]) (wc := ALP d (b 17) (b 18) (ζ_8.1.1 70, ζ_8.1.1 72, ζ_8.1.2.2.2.2 18)) (wr := [(b 0, .inr (1, [.ref (b 1), .int (ζ_8.1.1 1), .int (ζ_8.1.1 2), .ref (b 2), .ref (b 3), .ref (b 4), va_rf (ζ_8.1.2.2.2.2 6 0), .ref (b 7), .ref (b 13), .ref (b 16), .int (ζ_8.1.1 10)])), (b 1, .inl (d 2, 500, .inl (ζ_8.1.2.2.1 1))), (b 2, .inl (d 5, 2, .inr (.inr (.inr (.inr (fun j => some (z.2.2 j))))))), (b 3, .inl (d 6, 5, .inr (.inr (.inr (.inr (fun j => some (z.2.2 (2 + j)))))))), (b 4, .inr (4, [.int (ζ_8.1.1 20), .long (ζ_8.1.2.1 21), .long (ζ_8.1.2.1 22), .long (ζ_8.1.2.1 23), .ref (b 5), .ref (b 6), .ref (b 0)])), (b 5, .inr (2, [.long (ζ_8.1.2.1 30), .long (ζ_8.1.2.1 31)])), (b 6, .inr (2, [.long (ζ_8.1.2.1 32), .long (ζ_8.1.2.1 33)])), (b 7, .inr (6, [.int (ζ_8.1.1 40), .int (ζ_8.1.1 41), .int (ζ_8.1.1 42), .int (ζ_8.1.1 43), .int (ζ_8.1.1 44), .int (ζ_8.1.1 45), .ref (b 8), .ref (b 9), .ref (b 10), .int (ζ_8.1.1 49), .ref (b 11), .ref (b 12), .int (ζ_8.1.1 52)])), (b 8, .inl (d 0, 16, .inl (ζ_8.1.2.2.1 46))), (b 9, .inl (d 1, 16, .inr (.inl (ζ_8.1.2.2.2.1 47)))), (b 10, .inl (d 1, 16, .inr (.inl (ζ_8.1.2.2.2.1 48)))), (b 11, .inl (d 0, 8, .inl (ζ_8.1.2.2.1 50))), (b 12, .inl (d 0, 8, .inl (ζ_8.1.2.2.1 51))), (b 13, .inr (8, [.int (ζ_8.1.1 60), .int (ζ_8.1.1 61), .int (ζ_8.1.1 62), .int (ζ_8.1.1 63), .ref (b 14), .ref (b 15), .int (ζ_8.1.1 66), .ref (b 17)])), (b 14, .inl (d 0, 100, .inl (ζ_8.1.2.2.1 64))), (b 15, .inl (d 3, 100, .inl (ζ_8.1.2.2.1 65))), (b 16, .inr (17, [.ref (b 19), .int (ζ_8.1.1 81), .int (ζ_8.1.1 82)])), (b 19, .inl (d 4, 17, .inr (.inr (.inr (.inr (ζ_8.1.2.2.2.2 19))))))]) (w := XW d z b ζ_8.1) (tl := ζ_8.2) hD rfl rfl rfl
        refine runW_i (va_runV (As := []) (rest := []) S (tJ14_size l D d z (b 17) (b 18) ([(b 0, .inr (1, [.ref (b 1), .int (ζ_8.1.1 1), .int (ζ_8.1.1 2), .ref (b 2), .ref (b 3), .ref (b 4), va_rf (ζ_8.1.2.2.2.2 6 0), .ref (b 7), .ref (b 13), .ref (b 16), .int (ζ_8.1.1 10)])), (b 1, .inl (d 2, 500, .inl (ζ_8.1.2.2.1 1))), (b 2, .inl (d 5, 2, .inr (.inr (.inr (.inr (fun j => some (z.2.2 j))))))), (b 3, .inl (d 6, 5, .inr (.inr (.inr (.inr (fun j => some (z.2.2 (2 + j)))))))), (b 4, .inr (4, [.int (ζ_8.1.1 20), .long (ζ_8.1.2.1 21), .long (ζ_8.1.2.1 22), .long (ζ_8.1.2.1 23), .ref (b 5), .ref (b 6), .ref (b 0)])), (b 5, .inr (2, [.long (ζ_8.1.2.1 30), .long (ζ_8.1.2.1 31)])), (b 6, .inr (2, [.long (ζ_8.1.2.1 32), .long (ζ_8.1.2.1 33)])), (b 7, .inr (6, [.int (ζ_8.1.1 40), .int (ζ_8.1.1 41), .int (ζ_8.1.1 42), .int (ζ_8.1.1 43), .int (ζ_8.1.1 44), .int (ζ_8.1.1 45), .ref (b 8), .ref (b 9), .ref (b 10), .int (ζ_8.1.1 49), .ref (b 11), .ref (b 12), .int (ζ_8.1.1 52)])), (b 8, .inl (d 0, 16, .inl (ζ_8.1.2.2.1 46))), (b 9, .inl (d 1, 16, .inr (.inl (ζ_8.1.2.2.2.1 47)))), (b 10, .inl (d 1, 16, .inr (.inl (ζ_8.1.2.2.2.1 48)))), (b 11, .inl (d 0, 8, .inl (ζ_8.1.2.2.1 50))), (b 12, .inl (d 0, 8, .inl (ζ_8.1.2.2.1 51))), (b 13, .inr (8, [.int (ζ_8.1.1 60), .int (ζ_8.1.1 61), .int (ζ_8.1.1 62), .int (ζ_8.1.1 63), .ref (b 14), .ref (b 15), .int (ζ_8.1.1 66), .ref (b 17)])), (b 14, .inl (d 0, 100, .inl (ζ_8.1.2.2.1 64))), (b 15, .inl (d 3, 100, .inl (ζ_8.1.2.2.1 65))), (b 16, .inr (17, [.ref (b 19), .int (ζ_8.1.1 81), .int (ζ_8.1.1 82)])), (b 19, .inl (d 4, 17, .inr (.inr (.inr (.inr (ζ_8.1.2.2.2.2 19))))))] ++ ζ_8.2) K (ζ_8.1.1 70, ζ_8.1.1 72, ζ_8.1.2.2.2.2 18) r_39 h_38 _) (cwV 0 hts (lw_V q1392 q938 q939 q118 q940) rfl rfl rfl (by decide +kernel) ⟨(Nat.le_of_ble_eq_true rfl), (Nat.le_of_ble_eq_true rfl)⟩) ⟨Pw.blind, (va_recv hK.1 hP (ci := 18) (q0 := 16) rfl rfl), fun U hU hW => Pw.at hK hPc hDc hZ hS hA hU hW⟩ rfl rfl hl.1 rfl (lv_room (Nat.le_of_ble_eq_true rfl)) dX0_store_79 ⟨(Nat.le_of_ble_eq_true rfl), (Nat.le_of_ble_eq_true rfl)⟩) hPc hDc hS hA ?_
        clear hP hD hS hPc hDc
        intro H locs hP hD hS
        replace hP := ofT_P (perm := [2, 3, 4, 5, 6, 7, 8, 9, 10, 11, 12, 13, 14, 15, 16, 17, 0, 1, 18, 19]) (w' := XW d z b ζ_8.1) hP rfl
        replace hD := ofT_D (perm := [2, 3, 4, 5, 6, 7, 8, 9, 10, 11, 12, 13, 14, 15, 16, 17, 0, 1, 18, 19]) (w' := XW d z b ζ_8.1) hD rfl rfl
        clear h_38
        refine lv_bipush (v := 16) hx hb dX0_store_82 (by decide) ?_
        refine lv_icmp_ne (tgt := 90) hx hb dX0_store_84 (by decide) (fun c_40 => ?_) (fun c_40 => ?_)
        · replace hf := itU_f hf c_40
          clear c_40
          refine lv_aload_n hx hb dX0_store_90 rfl (lv_at hl 2 rfl) ?_
          obtain ⟨y_42, h_41, hf⟩ := b1u_some hf
          refine runW_vS (va_runV (As := []) (rest := []) S (tX0_remember l D d z b K ζ_8 y_42 h_41 _) (cwV 0 hts (lw_V q899 q901 qs20 q94 q902) rfl rfl rfl (by decide +kernel) ⟨(Nat.le_of_ble_eq_true rfl), (Nat.le_of_ble_eq_true rfl)⟩) ⟨Pw.blind, (va_recv hK.1 hP (ci := 1) (q0 := 0) rfl rfl), fun U hU hW => Pw.at hK hP hD hZ hS hA hU hW⟩ rfl rfl hl.1 rfl (lv_room (Nat.le_of_ble_eq_true rfl)) dX0_store_91 ⟨(Nat.le_of_ble_eq_true rfl), (Nat.le_of_ble_eq_true rfl)⟩) hP hD hS hA ?_
          clear hP hD hS
          intro u_44 _ H locs hP hD hS
          replace hf := hf u_44
          generalize y_42 u_44 = ζ_43 at hf hP hD ⊢
          clear h_41
          refine g_newT (w := XW d z b ζ_43.1) (tl := ζ_43.2) hx hb hts S.2.2.2.1 hK hP hD hS hA (ci := 16) in_X17 tyX17 tyX17_ok q1394 q1508 q129 rfl (fs := [.int (0 : Int32), .int (0 : Int32), .int (0 : Int32)]) (fun j hj => by rcases (show j = 0 ∨ j = 1 ∨ j = 2 by omega) with rfl | rfl | rfl <;> rfl) (Nat.le_of_ble_eq_true rfl) (Nat.le_of_ble_eq_true rfl) (w1 := fun q => (XW d z b ζ_43.1 ++ [(q, .inr (16, [.int (0 : Int32), .int (0 : Int32), .int (0 : Int32)]))])) (fun _ => rfl) dX0_store_94 ?_
          clear hP hD hS
          intro q_45 H hP hD hS
          replace hf := askU hf q_45
          replace hf := hf (fun _ => 0)
          refine lv_dup hx hb dX0_store_97 rfl ?_
          refine lv_aload_n hx hb dX0_store_98 rfl (lv_at hl 2 rfl) ?_
          refine g_get hx hb hts S.2.2.2.1 hK hP in_X0 0 rfl rfl 8 (by decide) q293 (fun _ h9 => h9) (v := .ref (b 13)) rfl dX0_store_99 ?_
          refine g_getN hx hb hts S.2.2.2.1 hK hP in_X8 13 rfl rfl 0 (by decide) q810 (fun _ h9 => h9) (v := .int (ζ_43.1.1 60)) rfl dX0_store_102 ?_
          refine lv_aload_n hx hb dX0_store_105 rfl (lv_at hl 2 rfl) ?_
          refine g_get hx hb hts S.2.2.2.1 hK hP in_X0 0 rfl rfl 8 (by decide) q293 (fun _ h9 => h9) (v := .ref (b 13)) rfl dX0_store_106 ?_
          refine g_getN hx hb hts S.2.2.2.1 hK hP in_X8 13 rfl rfl 1 (by decide) q812 (fun _ h9 => h9) (v := .int (ζ_43.1.1 61)) rfl dX0_store_109 ?_
          refine lv_aload_n hx hb dX0_store_112 rfl (lv_at hl 2 rfl) ?_
          obtain ⟨ζ_47, h_46, hf⟩ := b1_some hf
          obtain ⟨ζ_48, e_ζ_48⟩ : ∃ x, x = (xmrg ζ_43.1 ζ_47, ζ_43.2) := ⟨_, rfl⟩
          refine run_rS (w := (XW d z b ζ_43.1 ++ [(q_45, .inr (16, [.int (0 : Int32), .int (0 : Int32), .int (0 : Int32)]))])) (tl := ζ_43.2) (wr := [(b 17, .inr (18, [.int (ζ_43.1.1 70), .ref (b 18), .int (ζ_43.1.1 72)])), (b 18, .inl (d 4, 16, .inr (.inr (.inr (.inr (ζ_43.1.2.2.2.2 18)))))), (b 16, .inr (17, [.ref (b 19), .int (ζ_43.1.1 81), .int (ζ_43.1.1 82)])), (b 19, .inl (d 4, 17, .inr (.inr (.inr (.inr (ζ_43.1.2.2.2.2 19)))))), (q_45, .inr (16, [.int (0 : Int32), .int (0 : Int32), .int (0 : Int32)]))]) (w' := fun _ => (XW d z b ζ_48.1 ++ [(q_45, .inr (16, [.int (0 : Int32), .int (0 : Int32), .int (0 : Int32)]))])) (va_runV (As := []) (rest := [.int (ζ_43.1.1 61), .int (ζ_43.1.1 60), .ref q_45, .ref q_45]) S (tX0_here l D d z b (ζ_43.1.2.2.2.2 6 0) K ζ_43.1 ζ_47 h_46 _) (cwV 0 hts (lw_V q1093 q1095 qs30 q94 q1096) rfl rfl rfl (by decide +kernel) ⟨(Nat.le_of_ble_eq_true rfl), (Nat.le_of_ble_eq_true rfl)⟩) ⟨Pw.blind, (va_recv hK.1 hP (ci := 1) (q0 := 0) rfl rfl), fun U hU hW => Pw.cut (w := (XW d z b ζ_43.1 ++ [(q_45, .inr (16, [.int (0 : Int32), .int (0 : Int32), .int (0 : Int32)]))])) (tl := ζ_43.2) hK hP hD hZ hS hA [0, 1, 2, 3, 4, 5, 6, 7, 8, 9, 10, 11, 12, 13, 14, 15] rfl rfl hU hW⟩ rfl rfl hl.1 rfl (lv_room (Nat.le_of_ble_eq_true rfl)) dX0_store_113 ⟨(Nat.le_of_ble_eq_true rfl), (Nat.le_of_ble_eq_true rfl)⟩) hP hD hS hA [0, 1, 2, 3, 4, 5, 6, 7, 8, 9, 10, 11, 12, 13, 14, 15] [16, 17, 18, 19, 20] [5, 6, 7, 8, 9, 10, 11, 12, 13, 14, 15, 16, 17, 18, 19, 20, 0, 1, 2, 3, 4] rfl rfl rfl rfl (by decide) rfl (fun _ => by subst e_ζ_48; rfl) ?_
          clear hP hD hS
          intro _ _ H locs hP hD hS
          rw [show ζ_43.2 = ζ_48.2 from by subst e_ζ_48; rfl] at hP hD
          clear h_46
          replace hf := nm_some hf ζ_48 e_ζ_48
          clear e_ζ_48
          obtain ⟨r_50, ζ_51, h_49, hf⟩ := b2_some hf
          obtain ⟨ζ_52, e_ζ_52⟩ : ∃ x, x = (xmrg ζ_48.1 ζ_51, ζ_48.2) := ⟨_, rfl⟩
          refine run_i (w := (XW d z b ζ_48.1 ++ [(q_45, .inr (16, [.int (0 : Int32), .int (0 : Int32), .int (0 : Int32)]))])) (tl := ζ_48.2) (wr := [(b 17, .inr (18, [.int (ζ_48.1.1 70), .ref (b 18), .int (ζ_48.1.1 72)])), (b 18, .inl (d 4, 16, .inr (.inr (.inr (.inr (ζ_48.1.2.2.2.2 18)))))), (b 16, .inr (17, [.ref (b 19), .int (ζ_48.1.1 81), .int (ζ_48.1.1 82)])), (b 19, .inl (d 4, 17, .inr (.inr (.inr (.inr (ζ_48.1.2.2.2.2 19)))))), (q_45, .inr (16, [.int (0 : Int32), .int (0 : Int32), .int (0 : Int32)]))]) (w' := (XW d z b ζ_52.1 ++ [(q_45, .inr (16, [.int (0 : Int32), .int (0 : Int32), .int (0 : Int32)]))])) (va_runV (As := []) (rest := [.int (ζ_43.1.1 61), .int (ζ_43.1.1 60), .ref q_45, .ref q_45]) S (tX3_swr l D d z b (ζ_48.1.2.2.2.2 6 0) K ζ_48.1 r_50 ζ_51 h_49 _) (cwV 0 hts (lw_V q1119 q1120 q1121 q98 q1122) rfl rfl rfl (by decide +kernel) ⟨(Nat.le_of_ble_eq_true rfl), (Nat.le_of_ble_eq_true rfl)⟩) ⟨Pw.blind, (va_recv hK.1 hP (ci := 4) (q0 := 4) rfl rfl), fun U hU hW => Pw.cut (w := (XW d z b ζ_48.1 ++ [(q_45, .inr (16, [.int (0 : Int32), .int (0 : Int32), .int (0 : Int32)]))])) (tl := ζ_48.2) hK hP hD hZ hS hA [0, 1, 2, 3, 4, 5, 6, 7, 8, 9, 10, 11, 12, 13, 14, 15] rfl rfl hU hW⟩ rfl rfl hl.1 rfl (lv_room (Nat.le_of_ble_eq_true rfl)) dX0_store_116 ⟨(Nat.le_of_ble_eq_true rfl), (Nat.le_of_ble_eq_true rfl)⟩) hP hD hS hA [0, 1, 2, 3, 4, 5, 6, 7, 8, 9, 10, 11, 12, 13, 14, 15] [16, 17, 18, 19, 20] [5, 6, 7, 8, 9, 10, 11, 12, 13, 14, 15, 16, 17, 18, 19, 20, 0, 1, 2, 3, 4] rfl rfl rfl rfl (by decide) rfl (by subst e_ζ_52; rfl) ?_
          clear hP hD hS
          intro H locs hP hD hS
          rw [show ζ_48.2 = ζ_52.2 from by subst e_ζ_52; rfl] at hP hD
          clear h_49
          replace hf := nm_some hf ζ_52 e_ζ_52
          clear e_ζ_52
          obtain ⟨ζ_54, h_53, hf⟩ := b1_some hf
          refine run_v (w := (XW d z b ζ_52.1 ++ [(q_45, .inr (16, [.int (0 : Int32), .int (0 : Int32), .int (0 : Int32)]))])) (tl := ζ_52.2) (wr := [(b 0, .inr (1, [.ref (b 1), .int (ζ_52.1.1 1), .int (ζ_52.1.1 2), .ref (b 2), .ref (b 3), .ref (b 4), va_rf (ζ_52.1.2.2.2.2 6 0), .ref (b 7), .ref (b 13), .ref (b 16), .int (ζ_52.1.1 10)])), (b 1, .inl (d 2, 500, .inl (ζ_52.1.2.2.1 1))), (b 2, .inl (d 5, 2, .inr (.inr (.inr (.inr (fun j => some (z.2.2 j))))))), (b 3, .inl (d 6, 5, .inr (.inr (.inr (.inr (fun j => some (z.2.2 (2 + j)))))))), (b 4, .inr (4, [.int (ζ_52.1.1 20), .long (ζ_52.1.2.1 21), .long (ζ_52.1.2.1 22), .long (ζ_52.1.2.1 23), .ref (b 5), .ref (b 6), .ref (b 0)])), (b 5, .inr (2, [.long (ζ_52.1.2.1 30), .long (ζ_52.1.2.1 31)])), (b 6, .inr (2, [.long (ζ_52.1.2.1 32), .long (ζ_52.1.2.1 33)])), (b 7, .inr (6, [.int (ζ_52.1.1 40), .int (ζ_52.1.1 41), .int (ζ_52.1.1 42), .int (ζ_52.1.1 43), .int (ζ_52.1.1 44), .int (ζ_52.1.1 45), .ref (b 8), .ref (b 9), .ref (b 10), .int (ζ_52.1.1 49), .ref (b 11), .ref (b 12), .int (ζ_52.1.1 52)])), (b 8, .inl (d 0, 16, .inl (ζ_52.1.2.2.1 46))), (b 9, .inl (d 1, 16, .inr (.inl (ζ_52.1.2.2.2.1 47)))), (b 10, .inl (d 1, 16, .inr (.inl (ζ_52.1.2.2.2.1 48)))), (b 11, .inl (d 0, 8, .inl (ζ_52.1.2.2.1 50))), (b 12, .inl (d 0, 8, .inl (ζ_52.1.2.2.1 51))), (b 13, .inr (8, [.int (ζ_52.1.1 60), .int (ζ_52.1.1 61), .int (ζ_52.1.1 62), .int (ζ_52.1.1 63), .ref (b 14), .ref (b 15), .int (ζ_52.1.1 66), .ref (b 17)])), (b 14, .inl (d 0, 100, .inl (ζ_52.1.2.2.1 64))), (b 15, .inl (d 3, 100, .inl (ζ_52.1.2.2.1 65))), (b 17, .inr (18, [.int (ζ_52.1.1 70), .ref (b 18), .int (ζ_52.1.1 72)])), (b 18, .inl (d 4, 16, .inr (.inr (.inr (.inr (ζ_52.1.2.2.2.2 18)))))), (b 16, .inr (17, [.ref (b 19), .int (ζ_52.1.1 81), .int (ζ_52.1.1 82)])), (b 19, .inl (d 4, 17, .inr (.inr (.inr (.inr (ζ_52.1.2.2.2.2 19))))))]) (w' := (XW d z b ζ_52.1 ++ [(q_45, .inr (16, [.int ζ_54.1, .int ζ_54.2.1, .int ζ_54.2.2]))])) (va_runI (As := [.int (ζ_43.1.1 60), .int (ζ_43.1.1 61), .int r_50]) (rest := [.ref q_45]) S (tX17_init l D d z q_45 K (ζ_43.1.1 60) (ζ_43.1.1 61) r_50 ((0 : Int32), (0 : Int32), (0 : Int32)) ζ_54 h_53 _) (cwI 3 hts (lw_meth q1511) rfl rfl rfl (hts _ q129) (hts _ q1509) (hts _ q1510) rfl (by decide +kernel) ⟨(Nat.le_of_ble_eq_true rfl), (Nat.le_of_ble_eq_true rfl)⟩) ⟨Pw.blind, fun U hU hW => Pw.cut (w := (XW d z b ζ_52.1 ++ [(q_45, .inr (16, [.int (0 : Int32), .int (0 : Int32), .int (0 : Int32)]))])) (tl := ζ_52.2) hK hP hD hZ hS hA [20] rfl rfl hU hW⟩ rfl rfl hl.1 rfl (lv_room (Nat.le_of_ble_eq_true rfl)) dX0_store_119 ⟨(Nat.le_of_ble_eq_true rfl), (Nat.le_of_ble_eq_true rfl)⟩) hP hD hS hA [20] [0, 1, 2, 3, 4, 5, 6, 7, 8, 9, 10, 11, 12, 13, 14, 15, 16, 17, 18, 19] [0, 1, 2, 3, 4, 5, 6, 7, 8, 9, 10, 11, 12, 13, 14, 15, 16, 17, 18, 19, 20] rfl rfl rfl rfl (by decide) rfl rfl ?_
          clear hP hD hS
          intro H locs hP hD hS
          clear h_53
          refine lv_astore_n (lv' := [(3, .ref q_45), (2, .int (0 : Int32)), (1, .int r_7), (0, .ref (b 0))]) hx hb dX0_store_122 rfl hl (by decide) rfl (fun ls hl => ?_)
          refine lv_iload_n hx hb dX0_store_123 rfl (lv_at hl 1 rfl) ?_
          refine lv_if_eq (tgt := 143) hx hb dX0_store_124 (by decide) (fun c_55 => ?_) (fun c_55 => ?_)
          · replace hf := it_t hf c_55
            clear c_55
            refine lv_aload_n hx hb dX0_store_143 rfl (lv_at hl 3 rfl) ?_
            refine g_get hx hb hts S.2.2.2.1 hK hP in_X0 0 rfl rfl 8 (by decide) q293 (fun _ h9 => h9) (v := .ref (b 13)) rfl dX0_store_144 ?_
            refine g_getN hx hb hts S.2.2.2.1 hK hP in_X8 13 rfl rfl 7 (by decide) q823 (fun _ h9 => h9) (v := .ref (b 17)) rfl dX0_store_147 ?_
            refine lv_iload_n hx hb dX0_store_150 rfl (lv_at hl 2 rfl) ?_
            refine lv_aload_n hx hb dX0_store_151 rfl (lv_at hl 0 rfl) ?_
            obtain ⟨hes_56, hf⟩ := gaP_some hf
            obtain ⟨ζ_58, h_57, hf⟩ := b1_some hf
            obtain ⟨ζ_59, e_ζ_59⟩ : ∃ x, x = (xP (xI (xI ζ_52.1 70 ζ_58.1) 72 ζ_58.2.1) 18 ζ_58.2.2, ζ_52.2) := ⟨_, rfl⟩
            have hPc := toT_P (isC := [16, 17]) (isR := [0, 1, 2, 3, 4, 5, 6, 7, 8, 9, 10, 11, 12, 13, 14, 15, 18, 19, 20]) (wc := ALP d (b 17) (b 18) (ζ_52.1.1 70, ζ_52.1.1 72, ζ_52.1.2.2.2.2 18)) (wr := [(b 0, .inr (1, [.ref (b 1), .int (ζ_52.1.1 1), .int (ζ_52.1.1 2), .ref (b 2), .ref (b 3), .ref (b 4), va_rf (ζ_52.1.2.2.2.2 6 0), .ref (b 7), .ref (b 13), .ref (b 16), .int (ζ_52.1.1 10)])), (b 1, .inl (d 2, 500, .inl (ζ_52.1.2.2.1 1))), (b 2, .inl (d 5, 2, .inr (.inr (.inr (.inr (fun j => some (z.2.2 j))))))), (b 3, .inl (d 6, 5, .inr (.inr (.inr (.inr (fun j => some (z.2.2 (2 + j)))))))), (b 4, .inr (4, [.int (ζ_52.1.1 20), .long (ζ_52.1.2.1 21), .long (ζ_52.1.2.1 22), .long (ζ_52.1.2.1 23), .ref (b 5), .ref (b 6), .ref (b 0)])), (b 5, .inr (2, [.long (ζ_52.1.2.1 30), .long (ζ_52.1.2.1 31)])), (b 6, .inr (2, [.long (ζ_52.1.2.1 32), .long (ζ_52.1.2.1 33)])), (b 7, .inr (6, [.int (ζ_52.1.1 40), .int (ζ_52.1.1 41), .int (ζ_52.1.1 42), .int (ζ_52.1.1 43), .int (ζ_52.1.1 44), .int (ζ_52.1.1 45), .ref (b 8), .ref (b 9), .ref (b 10), .int (ζ_52.1.1 49), .ref (b 11), .ref (b 12), .int (ζ_52.1.1 52)])), (b 8, .inl (d 0, 16, .inl (ζ_52.1.2.2.1 46))), (b 9, .inl (d 1, 16, .inr (.inl (ζ_52.1.2.2.2.1 47)))), (b 10, .inl (d 1, 16, .inr (.inl (ζ_52.1.2.2.2.1 48)))), (b 11, .inl (d 0, 8, .inl (ζ_52.1.2.2.1 50))), (b 12, .inl (d 0, 8, .inl (ζ_52.1.2.2.1 51))), (b 13, .inr (8, [.int (ζ_52.1.1 60), .int (ζ_52.1.1 61), .int (ζ_52.1.1 62), .int (ζ_52.1.1 63), .ref (b 14), .ref (b 15), .int (ζ_52.1.1 66), .ref (b 17)])), (b 14, .inl (d 0, 100, .inl (ζ_52.1.2.2.1 64))), (b 15, .inl (d 3, 100, .inl (ζ_52.1.2.2.1 65))), (b 16, .inr (17, [.ref (b 19), .int (ζ_52.1.1 81), .int (ζ_52.1.1 82)])), (b 19, .inl (d 4, 17, .inr (.inr (.inr (.inr (ζ_52.1.2.2.2.2 19)))))), (q_45, .inr (16, [.int ζ_54.1, .int ζ_54.2.1, .int ζ_54.2.2]))]) (w := (XW d z b ζ_52.1 ++ [(q_45, .inr (16, [.int ζ_54.1, .int ζ_54.2.1, .int ζ_54.2.2]))])) (tl := ζ_52.2) hP rfl rfl
            have hDc := toT_D (isC := [16, 17]) (isR := [0, 1, 2, 3, 4, 5, 6, 7, 8, 9, 10, 11, 12, 13, 14, 15, 18, 19, 20]) (wc := ALP d (b 17) (b 18) (ζ_52.1.1 70, ζ_52.1.1 72, ζ_52.1.2.2.2.2 18)) (wr := [(b 0, .inr (1, [.ref (b 1), .int (ζ_52.1.1 1), .int (ζ_52.1.1 2), .ref (b 2), .ref (b 3), .ref (b 4), va_rf (ζ_52.1.2.2.2.2 6 0), .ref (b 7), .ref (b 13), .ref (b 16), .int (ζ_52.1.1 10)])), (b 1, .inl (d 2, 500, .inl (ζ_52.1.2.2.1 1))), (b 2, .inl (d 5, 2, .inr (.inr (.inr (.inr (fun j => some (z.2.2 j))))))), (b 3, .inl (d 6, 5, .inr (.inr (.inr (.inr (fun j => some (z.2.2 (2 + j)))))))), (b 4, .inr (4, [.int (ζ_52.1.1 20), .long (ζ_52.1.2.1 21), .long (ζ_52.1.2.1 22), .long (ζ_52.1.2.1 23), .ref (b 5), .ref (b 6), .ref (b 0)])), (b 5, .inr (2, [.long (ζ_52.1.2.1 30), .long (ζ_52.1.2.1 31)])), (b 6, .inr (2, [.long (ζ_52.1.2.1 32), .long (ζ_52.1.2.1 33)])), (b 7, .inr (6, [.int (ζ_52.1.1 40), .int (ζ_52.1.1 41), .int (ζ_52.1.1 42), .int (ζ_52.1.1 43), .int (ζ_52.1.1 44), .int (ζ_52.1.1 45), .ref (b 8), .ref (b 9), .ref (b 10), .int (ζ_52.1.1 49), .ref (b 11), .ref (b 12), .int (ζ_52.1.1 52)])), (b 8, .inl (d 0, 16, .inl (ζ_52.1.2.2.1 46))), (b 9, .inl (d 1, 16, .inr (.inl (ζ_52.1.2.2.2.1 47)))), (b 10, .inl (d 1, 16, .inr (.inl (ζ_52.1.2.2.2.1 48)))), (b 11, .inl (d 0, 8, .inl (ζ_52.1.2.2.1 50))), (b 12, .inl (d 0, 8, .inl (ζ_52.1.2.2.1 51))), (b 13, .inr (8, [.int (ζ_52.1.1 60), .int (ζ_52.1.1 61), .int (ζ_52.1.1 62), .int (ζ_52.1.1 63), .ref (b 14), .ref (b 15), .int (ζ_52.1.1 66), .ref (b 17)])), (b 14, .inl (d 0, 100, .inl (ζ_52.1.2.2.1 64))), (b 15, .inl (d 3, 100, .inl (ζ_52.1.2.2.1 65))), (b 16, .inr (17, [.ref (b 19), .int (ζ_52.1.1 81), .int (ζ_52.1.1 82)])), (b 19, .inl (d 4, 17, .inr (.inr (.inr (.inr (ζ_52.1.2.2.2.2 19)))))), (q_45, .inr (16, [.int ζ_54.1, .int ζ_54.2.1, .int ζ_54.2.2]))]) (w := (XW d z b ζ_52.1 ++ [(q_45, .inr (16, [.int ζ_54.1, .int ζ_54.2.1, .int ζ_54.2.2]))])) (tl := ζ_52.2) hD rfl rfl rfl
            refine runW_v (va_runV (As := [.int r_7, .ref q_45]) (rest := []) S (tJ14_add_3 l D d z (b 17) (b 18) ([(b 0, .inr (1, [.ref (b 1), .int (ζ_52.1.1 1), .int (ζ_52.1.1 2), .ref (b 2), .ref (b 3), .ref (b 4), va_rf (ζ_52.1.2.2.2.2 6 0), .ref (b 7), .ref (b 13), .ref (b 16), .int (ζ_52.1.1 10)])), (b 1, .inl (d 2, 500, .inl (ζ_52.1.2.2.1 1))), (b 2, .inl (d 5, 2, .inr (.inr (.inr (.inr (fun j => some (z.2.2 j))))))), (b 3, .inl (d 6, 5, .inr (.inr (.inr (.inr (fun j => some (z.2.2 (2 + j)))))))), (b 4, .inr (4, [.int (ζ_52.1.1 20), .long (ζ_52.1.2.1 21), .long (ζ_52.1.2.1 22), .long (ζ_52.1.2.1 23), .ref (b 5), .ref (b 6), .ref (b 0)])), (b 5, .inr (2, [.long (ζ_52.1.2.1 30), .long (ζ_52.1.2.1 31)])), (b 6, .inr (2, [.long (ζ_52.1.2.1 32), .long (ζ_52.1.2.1 33)])), (b 7, .inr (6, [.int (ζ_52.1.1 40), .int (ζ_52.1.1 41), .int (ζ_52.1.1 42), .int (ζ_52.1.1 43), .int (ζ_52.1.1 44), .int (ζ_52.1.1 45), .ref (b 8), .ref (b 9), .ref (b 10), .int (ζ_52.1.1 49), .ref (b 11), .ref (b 12), .int (ζ_52.1.1 52)])), (b 8, .inl (d 0, 16, .inl (ζ_52.1.2.2.1 46))), (b 9, .inl (d 1, 16, .inr (.inl (ζ_52.1.2.2.2.1 47)))), (b 10, .inl (d 1, 16, .inr (.inl (ζ_52.1.2.2.2.1 48)))), (b 11, .inl (d 0, 8, .inl (ζ_52.1.2.2.1 50))), (b 12, .inl (d 0, 8, .inl (ζ_52.1.2.2.1 51))), (b 13, .inr (8, [.int (ζ_52.1.1 60), .int (ζ_52.1.1 61), .int (ζ_52.1.1 62), .int (ζ_52.1.1 63), .ref (b 14), .ref (b 15), .int (ζ_52.1.1 66), .ref (b 17)])), (b 14, .inl (d 0, 100, .inl (ζ_52.1.2.2.1 64))), (b 15, .inl (d 3, 100, .inl (ζ_52.1.2.2.1 65))), (b 16, .inr (17, [.ref (b 19), .int (ζ_52.1.1 81), .int (ζ_52.1.1 82)])), (b 19, .inl (d 4, 17, .inr (.inr (.inr (.inr (ζ_52.1.2.2.2.2 19)))))), (q_45, .inr (16, [.int ζ_54.1, .int ζ_54.2.1, .int ζ_54.2.2]))] ++ ζ_52.2) K r_7 q_45 (ζ_52.1.1 70, ζ_52.1.1 72, ζ_52.1.2.2.2.2 18) ζ_58 h_57 ⟨_, List.mem_append_left _ (List.mem_of_getElem? (i := 18) rfl)⟩ (fun j q hq => (hes_56 j q hq).imp fun _ h => List.mem_append_right _ h) _) (cwV 2 hts (lw_V q1530 q1531 q1532 q118 q1533) rfl rfl rfl (by decide +kernel) ⟨(Nat.le_of_ble_eq_true rfl), (Nat.le_of_ble_eq_true rfl)⟩) ⟨Pw.blind, (va_recv hK.1 hP (ci := 18) (q0 := 16) rfl rfl), fun U hU hW => Pw.at hK hPc hDc hZ hS hA hU hW⟩ rfl rfl hl.1 rfl (lv_room (Nat.le_of_ble_eq_true rfl)) dX0_store_152 ⟨(Nat.le_of_ble_eq_true rfl), (Nat.le_of_ble_eq_true rfl)⟩) hPc hDc hS hA ?_
            clear hP hD hS hPc hDc
            intro H locs hP hD hS
            replace hP := ofT_P (perm := [2, 3, 4, 5, 6, 7, 8, 9, 10, 11, 12, 13, 14, 15, 16, 17, 0, 1, 18, 19, 20]) (w' := (XW d z b ζ_59.1 ++ [(q_45, .inr (16, [.int ζ_54.1, .int ζ_54.2.1, .int ζ_54.2.2]))])) hP (by subst e_ζ_59; rfl)
            replace hD := ofT_D (perm := [2, 3, 4, 5, 6, 7, 8, 9, 10, 11, 12, 13, 14, 15, 16, 17, 0, 1, 18, 19, 20]) (w' := (XW d z b ζ_59.1 ++ [(q_45, .inr (16, [.int ζ_54.1, .int ζ_54.2.1, .int ζ_54.2.2]))])) hD rfl (by subst e_ζ_59; rfl)
            rw [show ζ_52.2 = ζ_59.2 from by subst e_ζ_59; rfl] at hP hD
            clear h_57
            replace hf := nm_some hf ζ_59 e_ζ_59
            clear e_ζ_59
            refine lv_iload_n hx hb dX0_store_155 rfl (lv_at hl 2 rfl) ?_
            refine W.widen (k := 6) (n := 230) (Nat.le_of_ble_eq_true rfl) (Nat.le_of_ble_eq_true rfl) ?_
            obtain ⟨ζ_60, e_ζ_60⟩ : ∃ x, x = (ζ_59.1, [(q_45, .inr (16, [.int ζ_54.1, .int ζ_54.2.1, .int ζ_54.2.2]))] ++ ζ_59.2) := ⟨_, rfl⟩
            replace hf := nm_some hf ζ_60 e_ζ_60
            replace hP := kp_P (w := XW d z b ζ_59.1) (ks := [(q_45, .inr (16, [.int ζ_54.1, .int ζ_54.2.1, .int ζ_54.2.2]))]) (w' := XW d z b ζ_60.1) (t2 := ζ_60.2) hP (by subst e_ζ_60; rfl) (by subst e_ζ_60; rfl)
            replace hD := kp_D (w := XW d z b ζ_59.1) (ks := [(q_45, .inr (16, [.int ζ_54.1, .int ζ_54.2.1, .int ζ_54.2.2]))]) (w' := XW d z b ζ_60.1) (t2 := ζ_60.2) hD (by subst e_ζ_60; rfl) (by subst e_ζ_60; rfl)
            clear e_ζ_60
            exact hret _ _ _ _ _ _ _ hf dX0_store_156 hP hD hS
          · replace hf := it_f hf c_55
            clear c_55
            refine lv_aload_n hx hb dX0_store_127 rfl (lv_at hl 3 rfl) ?_
            refine g_get hx hb hts S.2.2.2.1 hK hP in_X0 0 rfl rfl 8 (by decide) q293 (fun _ h9 => h9) (v := .ref (b 13)) rfl dX0_store_128 ?_
            refine g_getN hx hb hts S.2.2.2.1 hK hP in_X8 13 rfl rfl 7 (by decide) q823 (fun _ h9 => h9) (v := .ref (b 17)) rfl dX0_store_131 ?_
            refine lv_iload_n hx hb dX0_store_134 rfl (lv_at hl 2 rfl) ?_
            refine lv_aload_n hx hb dX0_store_135 rfl (lv_at hl 0 rfl) ?_
            obtain ⟨r_62, ζ_63, h_61, hf⟩ := b2_some hf
            obtain ⟨ζ_64, e_ζ_64⟩ : ∃ x, x = (xP (xI (xI ζ_52.1 70 ζ_63.1) 72 ζ_63.2.1) 18 ζ_63.2.2, ζ_52.2) := ⟨_, rfl⟩
            have hPc := toT_P (isC := [16, 17]) (isR := [0, 1, 2, 3, 4, 5, 6, 7, 8, 9, 10, 11, 12, 13, 14, 15, 18, 19, 20]) (wc := ALP d (b 17) (b 18) (ζ_52.1.1 70, ζ_52.1.1 72, ζ_52.1.2.2.2.2 18)) (wr := [(b 0, .inr (1, [.ref (b 1), .int (ζ_52.1.1 1), .int (ζ_52.1.1 2), .ref (b 2), .ref (b 3), .ref (b 4), va_rf (ζ_52.1.2.2.2.2 6 0), .ref (b 7), .ref (b 13), .ref (b 16), .int (ζ_52.1.1 10)])), (b 1, .inl (d 2, 500, .inl (ζ_52.1.2.2.1 1))), (b 2, .inl (d 5, 2, .inr (.inr (.inr (.inr (fun j => some (z.2.2 j))))))), (b 3, .inl (d 6, 5, .inr (.inr (.inr (.inr (fun j => some (z.2.2 (2 + j)))))))), (b 4, .inr (4, [.int (ζ_52.1.1 20), .long (ζ_52.1.2.1 21), .long (ζ_52.1.2.1 22), .long (ζ_52.1.2.1 23), .ref (b 5), .ref (b 6), .ref (b 0)])), (b 5, .inr (2, [.long (ζ_52.1.2.1 30), .long (ζ_52.1.2.1 31)])), (b 6, .inr (2, [.long (ζ_52.1.2.1 32), .long (ζ_52.1.2.1 33)])), (b 7, .inr (6, [.int (ζ_52.1.1 40), .int (ζ_52.1.1 41), .int (ζ_52.1.1 42), .int (ζ_52.1.1 43), .int (ζ_52.1.1 44), .int (ζ_52.1.1 45), .ref (b 8), .ref (b 9), .ref (b 10), .int (ζ_52.1.1 49), .ref (b 11), .ref (b 12), .int (ζ_52.1.1 52)])), (b 8, .inl (d 0, 16, .inl (ζ_52.1.2.2.1 46))), (b 9, .inl (d 1, 16, .inr (.inl (ζ_52.1.2.2.2.1 47)))), (b 10, .inl (d 1, 16, .inr (.inl (ζ_52.1.2.2.2.1 48)))), (b 11, .inl (d 0, 8, .inl (ζ_52.1.2.2.1 50))), (b 12, .inl (d 0, 8, .inl (ζ_52.1.2.2.1 51))), (b 13, .inr (8, [.int (ζ_52.1.1 60), .int (ζ_52.1.1 61), .int (ζ_52.1.1 62), .int (ζ_52.1.1 63), .ref (b 14), .ref (b 15), .int (ζ_52.1.1 66), .ref (b 17)])), (b 14, .inl (d 0, 100, .inl (ζ_52.1.2.2.1 64))), (b 15, .inl (d 3, 100, .inl (ζ_52.1.2.2.1 65))), (b 16, .inr (17, [.ref (b 19), .int (ζ_52.1.1 81), .int (ζ_52.1.1 82)])), (b 19, .inl (d 4, 17, .inr (.inr (.inr (.inr (ζ_52.1.2.2.2.2 19)))))), (q_45, .inr (16, [.int ζ_54.1, .int ζ_54.2.1, .int ζ_54.2.2]))]) (w := (XW d z b ζ_52.1 ++ [(q_45, .inr (16, [.int ζ_54.1, .int ζ_54.2.1, .int ζ_54.2.2]))])) (tl := ζ_52.2) hP rfl rfl
            have hDc := toT_D (isC := [16, 17]) (isR := [0, 1, 2, 3, 4, 5, 6, 7, 8, 9, 10, 11, 12, 13, 14, 15, 18, 19, 20]) (wc := ALP d (b 17) (b 18) (ζ_52.1.1 70, ζ_52.1.1 72, ζ_52.1.2.2.2.2 18)) (wr := [(b 0, .inr (1, [.ref (b 1), .int (ζ_52.1.1 1), .int (ζ_52.1.1 2), .ref (b 2), .ref (b 3), .ref (b 4), va_rf (ζ_52.1.2.2.2.2 6 0), .ref (b 7), .ref (b 13), .ref (b 16), .int (ζ_52.1.1 10)])), (b 1, .inl (d 2, 500, .inl (ζ_52.1.2.2.1 1))), (b 2, .inl (d 5, 2, .inr (.inr (.inr (.inr (fun j => some (z.2.2 j))))))), (b 3, .inl (d 6, 5, .inr (.inr (.inr (.inr (fun j => some (z.2.2 (2 + j)))))))), (b 4, .inr (4, [.int (ζ_52.1.1 20), .long (ζ_52.1.2.1 21), .long (ζ_52.1.2.1 22), .long (ζ_52.1.2.1 23), .ref (b 5), .ref (b 6), .ref (b 0)])), (b 5, .inr (2, [.long (ζ_52.1.2.1 30), .long (ζ_52.1.2.1 31)])), (b 6, .inr (2, [.long (ζ_52.1.2.1 32), .long (ζ_52.1.2.1 33)])), (b 7, .inr (6, [.int (ζ_52.1.1 40), .int (ζ_52.1.1 41), .int (ζ_52.1.1 42), .int (ζ_52.1.1 43), .int (ζ_52.1.1 44), .int (ζ_52.1.1 45), .ref (b 8), .ref (b 9), .ref (b 10), .int (ζ_52.1.1 49), .ref (b 11), .ref (b 12), .int (ζ_52.1.1 52)])), (b 8, .inl (d 0, 16, .inl (ζ_52.1.2.2.1 46))), (b 9, .inl (d 1, 16, .inr (.inl (ζ_52.1.2.2.2.1 47)))), (b 10, .inl (d 1, 16, .inr (.inl (ζ_52.1.2.2.2.1 48)))), (b 11, .inl (d 0, 8, .inl (ζ_52.1.2.2.1 50))), (b 12, .inl (d 0, 8, .inl (ζ_52.1.2.2.1 51))), (b 13, .inr (8, [.int (ζ_52.1.1 60), .int (ζ_52.1.1 61), .int (ζ_52.1.1 62), .int (ζ_52.1.1 63), .ref (b 14), .ref (b 15), .int (ζ_52.1.1 66), .ref (b 17)])), (b 14, .inl (d 0, 100, .inl (ζ_52.1.2.2.1 64))), (b 15, .inl (d 3, 100, .inl (ζ_52.1.2.2.1 65))), (b 16, .inr (17, [.ref (b 19), .int (ζ_52.1.1 81), .int (ζ_52.1.1 82)])), (b 19, .inl (d 4, 17, .inr (.inr (.inr (.inr (ζ_52.1.2.2.2.2 19)))))), (q_45, .inr (16, [.int ζ_54.1, .int ζ_54.2.1, .int ζ_54.2.2]))]) (w := (XW d z b ζ_52.1 ++ [(q_45, .inr (16, [.int ζ_54.1, .int ζ_54.2.1, .int ζ_54.2.2]))])) (tl := ζ_52.2) hD rfl rfl rfl
            refine runW_rS (va_runV (As := [.int r_7, .ref q_45]) (rest := []) S (tJ14_set l D d z (b 17) (b 18) ([(b 0, .inr (1, [.ref (b 1), .int (ζ_52.1.1 1), .int (ζ_52.1.1 2), .ref (b 2), .ref (b 3), .ref (b 4), va_rf (ζ_52.1.2.2.2.2 6 0), .ref (b 7), .ref (b 13), .ref (b 16), .int (ζ_52.1.1 10)])), (b 1, .inl (d 2, 500, .inl (ζ_52.1.2.2.1 1))), (b 2, .inl (d 5, 2, .inr (.inr (.inr (.inr (fun j => some (z.2.2 j))))))), (b 3, .inl (d 6, 5, .inr (.inr (.inr (.inr (fun j => some (z.2.2 (2 + j)))))))), (b 4, .inr (4, [.int (ζ_52.1.1 20), .long (ζ_52.1.2.1 21), .long (ζ_52.1.2.1 22), .long (ζ_52.1.2.1 23), .ref (b 5), .ref (b 6), .ref (b 0)])), (b 5, .inr (2, [.long (ζ_52.1.2.1 30), .long (ζ_52.1.2.1 31)])), (b 6, .inr (2, [.long (ζ_52.1.2.1 32), .long (ζ_52.1.2.1 33)])), (b 7, .inr (6, [.int (ζ_52.1.1 40), .int (ζ_52.1.1 41), .int (ζ_52.1.1 42), .int (ζ_52.1.1 43), .int (ζ_52.1.1 44), .int (ζ_52.1.1 45), .ref (b 8), .ref (b 9), .ref (b 10), .int (ζ_52.1.1 49), .ref (b 11), .ref (b 12), .int (ζ_52.1.1 52)])), (b 8, .inl (d 0, 16, .inl (ζ_52.1.2.2.1 46))), (b 9, .inl (d 1, 16, .inr (.inl (ζ_52.1.2.2.2.1 47)))), (b 10, .inl (d 1, 16, .inr (.inl (ζ_52.1.2.2.2.1 48)))), (b 11, .inl (d 0, 8, .inl (ζ_52.1.2.2.1 50))), (b 12, .inl (d 0, 8, .inl (ζ_52.1.2.2.1 51))), (b 13, .inr (8, [.int (ζ_52.1.1 60), .int (ζ_52.1.1 61), .int (ζ_52.1.1 62), .int (ζ_52.1.1 63), .ref (b 14), .ref (b 15), .int (ζ_52.1.1 66), .ref (b 17)])), (b 14, .inl (d 0, 100, .inl (ζ_52.1.2.2.1 64))), (b 15, .inl (d 3, 100, .inl (ζ_52.1.2.2.1 65))), (b 16, .inr (17, [.ref (b 19), .int (ζ_52.1.1 81), .int (ζ_52.1.1 82)])), (b 19, .inl (d 4, 17, .inr (.inr (.inr (.inr (ζ_52.1.2.2.2.2 19)))))), (q_45, .inr (16, [.int ζ_54.1, .int ζ_54.2.1, .int ζ_54.2.2]))] ++ ζ_52.2) K r_7 q_45 (ζ_52.1.1 70, ζ_52.1.1 72, ζ_52.1.2.2.2.2 18) r_62 ζ_63 h_61 ⟨_, List.mem_append_left _ (List.mem_of_getElem? (i := 18) rfl)⟩ _) (cwV 2 hts (lw_V q1526 q1527 q1528 q118 q1529) rfl rfl rfl (by decide +kernel) ⟨(Nat.le_of_ble_eq_true rfl), (Nat.le_of_ble_eq_true rfl)⟩) ⟨Pw.blind, (va_recv hK.1 hP (ci := 18) (q0 := 16) rfl rfl), fun U hU hW => Pw.at hK hPc hDc hZ hS hA hU hW⟩ rfl rfl hl.1 rfl (lv_room (Nat.le_of_ble_eq_true rfl)) dX0_store_136 ⟨(Nat.le_of_ble_eq_true rfl), (Nat.le_of_ble_eq_true rfl)⟩) hPc hDc hS hA ?_
            clear hP hD hS hPc hDc
            intro _ _ H locs hP hD hS
            replace hP := ofT_P (perm := [2, 3, 4, 5, 6, 7, 8, 9, 10, 11, 12, 13, 14, 15, 16, 17, 0, 1, 18, 19, 20]) (w' := (XW d z b ζ_64.1 ++ [(q_45, .inr (16, [.int ζ_54.1, .int ζ_54.2.1, .int ζ_54.2.2]))])) hP (by subst e_ζ_64; rfl)
            replace hD := ofT_D (perm := [2, 3, 4, 5, 6, 7, 8, 9, 10, 11, 12, 13, 14, 15, 16, 17, 0, 1, 18, 19, 20]) (w' := (XW d z b ζ_64.1 ++ [(q_45, .inr (16, [.int ζ_54.1, .int ζ_54.2.1, .int ζ_54.2.2]))])) hD rfl (by subst e_ζ_64; rfl)
            rw [show ζ_52.2 = ζ_64.2 from by subst e_ζ_64; rfl] at hP hD
            clear h_61
            replace hf := nm_some hf ζ_64 e_ζ_64
            clear e_ζ_64
            refine lv_pop hx hb dX0_store_139 rfl ?_
            refine lv_goto (tgt := 155) hx hb dX0_store_140 (by decide) ?_
            refine lv_iload_n hx hb dX0_store_155 rfl (lv_at hl 2 rfl) ?_
            refine W.widen (k := 6) (n := 230) (Nat.le_of_ble_eq_true rfl) (Nat.le_of_ble_eq_true rfl) ?_
            obtain ⟨ζ_65, e_ζ_65⟩ : ∃ x, x = (ζ_64.1, [(q_45, .inr (16, [.int ζ_54.1, .int ζ_54.2.1, .int ζ_54.2.2]))] ++ ζ_64.2) := ⟨_, rfl⟩
            replace hf := nm_some hf ζ_65 e_ζ_65
            replace hP := kp_P (w := XW d z b ζ_64.1) (ks := [(q_45, .inr (16, [.int ζ_54.1, .int ζ_54.2.1, .int ζ_54.2.2]))]) (w' := XW d z b ζ_65.1) (t2 := ζ_65.2) hP (by subst e_ζ_65; rfl) (by subst e_ζ_65; rfl)
            replace hD := kp_D (w := XW d z b ζ_64.1) (ks := [(q_45, .inr (16, [.int ζ_54.1, .int ζ_54.2.1, .int ζ_54.2.2]))]) (w' := XW d z b ζ_65.1) (t2 := ζ_65.2) hD (by subst e_ζ_65; rfl) (by subst e_ζ_65; rfl)
            clear e_ζ_65
            exact hret _ _ _ _ _ _ _ hf dX0_store_156 hP hD hS
        · replace hf := itU_t hf c_40
          clear c_40
          replace hf := hf (fun _ => 0)
          refine lv_bipush (v := -2) hx hb dX0_store_87 (by decide) ?_
          refine W.widen (k := 6) (n := 230) (Nat.le_of_ble_eq_true rfl) (Nat.le_of_ble_eq_true rfl) ?_
          exact hret _ _ _ _ _ _ _ hf dX0_store_89 hP hD hS
    · replace hf := itU_f hf c_11
      clear c_11
      refine lv_aload_n hx hb dX0_store_35 rfl (lv_at hl 1 rfl) ?_
      refine g_get hx hb hts S.2.2.2.1 hK hP in_X0 0 rfl rfl 8 (by decide) q293 (fun _ h9 => h9) (v := .ref (b 13)) rfl dX0_store_36 ?_
      refine g_getN hx hb hts S.2.2.2.1 hK hP in_X8 13 rfl rfl 7 (by decide) q823 (fun _ h9 => h9) (v := .ref (b 17)) rfl dX0_store_39 ?_
      refine lv_iload_n hx hb dX0_store_42 rfl (lv_at hl 0 rfl) ?_
      obtain ⟨r_67, h_66, hf⟩ := b1U hf
      have hPc := toT_P (isC := [16, 17]) (isR := [0, 1, 2, 3, 4, 5, 6, 7, 8, 9, 10, 11, 12, 13, 14, 15, 18, 19]) (wc := ALP d (b 17) (b 18) (ζ_8.1.1 70, ζ_8.1.1 72, ζ_8.1.2.2.2.2 18)) (wr := [(b 0, .inr (1, [.ref (b 1), .int (ζ_8.1.1 1), .int (ζ_8.1.1 2), .ref (b 2), .ref (b 3), .ref (b 4), va_rf (ζ_8.1.2.2.2.2 6 0), .ref (b 7), .ref (b 13), .ref (b 16), .int (ζ_8.1.1 10)])), (b 1, .inl (d 2, 500, .inl (ζ_8.1.2.2.1 1))), (b 2, .inl (d 5, 2, .inr (.inr (.inr (.inr (fun j => some (z.2.2 j))))))), (b 3, .inl (d 6, 5, .inr (.inr (.inr (.inr (fun j => some (z.2.2 (2 + j)))))))), (b 4, .inr (4, [.int (ζ_8.1.1 20), .long (ζ_8.1.2.1 21), .long (ζ_8.1.2.1 22), .long (ζ_8.1.2.1 23), .ref (b 5), .ref (b 6), .ref (b 0)])), (b 5, .inr (2, [.long (ζ_8.1.2.1 30), .long (ζ_8.1.2.1 31)])), (b 6, .inr (2, [.long (ζ_8.1.2.1 32), .long (ζ_8.1.2.1 33)])), (b 7, .inr (6, [.int (ζ_8.1.1 40), .int (ζ_8.1.1 41), .int (ζ_8.1.1 42), .int (ζ_8.1.1 43), .int (ζ_8.1.1 44), .int (ζ_8.1.1 45), .ref (b 8), .ref (b 9), .ref (b 10), .int (ζ_8.1.1 49), .ref (b 11), .ref (b 12), .int (ζ_8.1.1 52)])), (b 8, .inl (d 0, 16, .inl (ζ_8.1.2.2.1 46))), (b 9, .inl (d 1, 16, .inr (.inl (ζ_8.1.2.2.2.1 47)))), (b 10, .inl (d 1, 16, .inr (.inl (ζ_8.1.2.2.2.1 48)))), (b 11, .inl (d 0, 8, .inl (ζ_8.1.2.2.1 50))), (b 12, .inl (d 0, 8, .inl (ζ_8.1.2.2.1 51))), (b 13, .inr (8, [.int (ζ_8.1.1 60), .int (ζ_8.1.1 61), .int (ζ_8.1.1 62), .int (ζ_8.1.1 63), .ref (b 14), .ref (b 15), .int (ζ_8.1.1 66), .ref (b 17)])), (b 14, .inl (d 0, 100, .inl (ζ_8.1.2.2.1 64))), (b 15, .inl (d 3, 100, .inl (ζ_8.1.2.2.1 65))), (b 16, .inr (17, [.ref (b 19), .int (ζ_8.1.1 81), .int (ζ_8.1.1 82)])), (b 19, .inl (d 4, 17, .inr (.inr (.inr (.inr (ζ_8.1.2.2.2.2 19))))))]) (w := XW d z b ζ_8.1) (tl := ζ_8.2) hP rfl rfl
      have hDc := toT_D (isC := [16, 17]) (isR := [0, 1, 2, 3, 4, 5, 6, 7, 8, 9, 10, 11, 12, 13, 14, 15, 18, 19]) (wc := ALP d (b 17) (b 18) (ζ_8.1.1 70, ζ_8.1.1 72, ζ_8.1.2.2.2.2 18)) (wr := [(b 0, .inr (1, [.ref (b 1), .int (ζ_8.1.1 1), .int (ζ_8.1.1 2), .ref (b 2), .ref (b 3), .ref (b 4), va_rf (ζ_8.1.2.2.2.2 6 0), .ref (b 7), .ref (b 13), .ref (b 16), .int (ζ_8.1.1 10)])), (b 1, .inl (d 2, 500, .inl (ζ_8.1.2.2.1 1))), (b 2, .inl (d 5, 2, .inr (.inr (.inr (.inr (fun j => some (z.2.2 j))))))), (b 3, .inl (d 6, 5, .inr (.inr (.inr (.inr (fun j => some (z.2.2 (2 + j)))))))), (b 4, .inr (4, [.int (ζ_8.1.1 20), .long (ζ_8.1.2.1 21), .long (ζ_8.1.2.1 22), .long (ζ_8.1.2.1 23), .ref (b 5), .ref (b 6), .ref (b 0)])), (b 5, .inr (2, [.long (ζ_8.1.2.1 30), .long (ζ_8.1.2.1 31)])), (b 6, .inr (2, [.long (ζ_8.1.2.1 32), .long (ζ_8.1.2.1 33)])), (b 7, .inr (6, [.int (ζ_8.1.1 40), .int (ζ_8.1.1 41), .int (ζ_8.1.1 42), .int (ζ_8.1.1 43), .int (ζ_8.1.1 44), .int (ζ_8.1.1 45), .ref (b 8), .ref (b 9), .ref (b 10), .int (ζ_8.1.1 49), .ref (b 11), .ref (b 12), .int (ζ_8.1.1 52)])), (b 8, .inl (d 0, 16, .inl (ζ_8.1.2.2.1 46))), (b 9, .inl (d 1, 16, .inr (.inl (ζ_8.1.2.2.2.1 47)))), (b 10, .inl (d 1, 16, .inr (.inl (ζ_8.1.2.2.2.1 48)))), (b 11, .inl (d 0, 8, .inl (ζ_8.1.2.2.1 50))), (b 12, .inl (d 0, 8, .inl (ζ_8.1.2.2.1 51))), (b 13, .inr (8, [.int (ζ_8.1.1 60), .int (ζ_8.1.1 61), .int (ζ_8.1.1 62), .int (ζ_8.1.1 63), .ref (b 14), .ref (b 15), .int (ζ_8.1.1 66), .ref (b 17)])), (b 14, .inl (d 0, 100, .inl (ζ_8.1.2.2.1 64))), (b 15, .inl (d 3, 100, .inl (ζ_8.1.2.2.1 65))), (b 16, .inr (17, [.ref (b 19), .int (ζ_8.1.1 81), .int (ζ_8.1.1 82)])), (b 19, .inl (d 4, 17, .inr (.inr (.inr (.inr (ζ_8.1.2.2.2.2 19))))))]) (w := XW d z b ζ_8.1) (tl := ζ_8.2) hD rfl rfl rfl
      refine runW_rS (va_runV (As := [.int r_7]) (rest := []) S (tJ14_get l D d z (b 17) (b 18) ([(b 0, .inr (1, [.ref (b 1), .int (ζ_8.1.1 1), .int (ζ_8.1.1 2), .ref (b 2), .ref (b 3), .ref (b 4), va_rf (ζ_8.1.2.2.2.2 6 0), .ref (b 7), .ref (b 13), .ref (b 16), .int (ζ_8.1.1 10)])), (b 1, .inl (d 2, 500, .inl (ζ_8.1.2.2.1 1))), (b 2, .inl (d 5, 2, .inr (.inr (.inr (.inr (fun j => some (z.2.2 j))))))), (b 3, .inl (d 6, 5, .inr (.inr (.inr (.inr (fun j => some (z.2.2 (2 + j)))))))), (b 4, .inr (4, [.int (ζ_8.1.1 20), .long (ζ_8.1.2.1 21), .long (ζ_8.1.2.1 22), .long (ζ_8.1.2.1 23), .ref (b 5), .ref (b 6), .ref (b 0)])), (b 5, .inr (2, [.long (ζ_8.1.2.1 30), .long (ζ_8.1.2.1 31)])), (b 6, .inr (2, [.long (ζ_8.1.2.1 32), .long (ζ_8.1.2.1 33)])), (b 7, .inr (6, [.int (ζ_8.1.1 40), .int (ζ_8.1.1 41), .int (ζ_8.1.1 42), .int (ζ_8.1.1 43), .int (ζ_8.1.1 44), .int (ζ_8.1.1 45), .ref (b 8), .ref (b 9), .ref (b 10), .int (ζ_8.1.1 49), .ref (b 11), .ref (b 12), .int (ζ_8.1.1 52)])), (b 8, .inl (d 0, 16, .inl (ζ_8.1.2.2.1 46))), (b 9, .inl (d 1, 16, .inr (.inl (ζ_8.1.2.2.2.1 47)))), (b 10, .inl (d 1, 16, .inr (.inl (ζ_8.1.2.2.2.1 48)))), (b 11, .inl (d 0, 8, .inl (ζ_8.1.2.2.1 50))), (b 12, .inl (d 0, 8, .inl (ζ_8.1.2.2.1 51))), (b 13, .inr (8, [.int (ζ_8.1.1 60), .int (ζ_8.1.1 61), .int (ζ_8.1.1 62), .int (ζ_8.1.1 63), .ref (b 14), .ref (b 15), .int (ζ_8.1.1 66), .ref (b 17)])), (b 14, .inl (d 0, 100, .inl (ζ_8.1.2.2.1 64))), (b 15, .inl (d 3, 100, .inl (ζ_8.1.2.2.1 65))), (b 16, .inr (17, [.ref (b 19), .int (ζ_8.1.1 81), .int (ζ_8.1.1 82)])), (b 19, .inl (d 4, 17, .inr (.inr (.inr (.inr (ζ_8.1.2.2.2.2 19))))))] ++ ζ_8.2) K r_7 (ζ_8.1.1 70, ζ_8.1.1 72, ζ_8.1.2.2.2.2 18) r_67 h_66 _) (cwV 1 hts (lw_V q1393 q942 q943 q118 q944) rfl rfl rfl (by decide +kernel) ⟨(Nat.le_of_ble_eq_true rfl), (Nat.le_of_ble_eq_true rfl)⟩) ⟨Pw.blind, (va_recv hK.1 hP (ci := 18) (q0 := 16) rfl rfl), fun U hU hW => Pw.at hK hPc hDc hZ hS hA hU hW⟩ rfl rfl hl.1 rfl (lv_room (Nat.le_of_ble_eq_true rfl)) dX0_store_43 ⟨(Nat.le_of_ble_eq_true rfl), (Nat.le_of_ble_eq_true rfl)⟩) hPc hDc hS hA ?_
      clear hP hD hS hPc hDc
      intro _ _ H locs hP hD hS
      replace hP := ofT_P (perm := [2, 3, 4, 5, 6, 7, 8, 9, 10, 11, 12, 13, 14, 15, 16, 17, 0, 1, 18, 19]) (w' := XW d z b ζ_8.1) hP rfl
      replace hD := ofT_D (perm := [2, 3, 4, 5, 6, 7, 8, 9, 10, 11, 12, 13, 14, 15, 16, 17, 0, 1, 18, 19]) (w' := XW d z b ζ_8.1) hD rfl rfl
      clear h_66
      obtain ⟨t_68, m_69, hf⟩ := b1U hf
      replace m_69 := entOf_mem m_69
      refine g_castM hx hb hts S.2.2.2.1 hK hP (ci := 16) rfl (List.mem_append_right _ m_69) q1394 dX0_store_46 ?_
      refine g_getMN (tl := ζ_8.2) hx hb hts S.2.2.2.1 hK hP in_X17 m_69 rfl 0 (by decide) q1514 (fun _ h9 => h9) (v := .int t_68.1) rfl dX0_store_49 ?_
      refine lv_aload_n hx hb dX0_store_52 rfl (lv_at hl 1 rfl) ?_
      refine g_get hx hb hts S.2.2.2.1 hK hP in_X0 0 rfl rfl 8 (by decide) q293 (fun _ h9 => h9) (v := .ref (b 13)) rfl dX0_store_53 ?_
      refine g_getN hx hb hts S.2.2.2.1 hK hP in_X8 13 rfl rfl 0 (by decide) q810 (fun _ h9 => h9) (v := .int (ζ_8.1.1 60)) rfl dX0_store_56 ?_
      refine lv_icmp_ne (tgt := 66) hx hb dX0_store_59 (by decide) (fun c_70 => ?_) (fun c_70 => ?_)
      · replace hf := itU_f hf c_70
        clear c_70
        refine lv_iconst (v := 0) hx hb dX0_store_66 (by decide) ?_
        refine lv_istore_n (lv' := [(2, .int (0 : Int32)), (1, .int r_7), (0, .ref (b 0))]) hx hb dX0_store_67 rfl hl (by decide) rfl (fun ls hl => ?_)
        refine lv_iload_n hx hb dX0_store_68 rfl (lv_at hl 0 rfl) ?_
        refine lv_if_ne (tgt := 90) hx hb dX0_store_69 (by decide) (fun c_71 => ?_) (fun c_71 => ?_)
        · replace hf := itU_f hf c_71
          clear c_71
          refine lv_aload_n hx hb dX0_store_90 rfl (lv_at hl 2 rfl) ?_
          obtain ⟨y_73, h_72, hf⟩ := b1u_some hf
          refine runW_vS (va_runV (As := []) (rest := []) S (tX0_remember l D d z b K ζ_8 y_73 h_72 _) (cwV 0 hts (lw_V q899 q901 qs20 q94 q902) rfl rfl rfl (by decide +kernel) ⟨(Nat.le_of_ble_eq_true rfl), (Nat.le_of_ble_eq_true rfl)⟩) ⟨Pw.blind, (va_recv hK.1 hP (ci := 1) (q0 := 0) rfl rfl), fun U hU hW => Pw.at hK hP hD hZ hS hA hU hW⟩ rfl rfl hl.1 rfl (lv_room (Nat.le_of_ble_eq_true rfl)) dX0_store_91 ⟨(Nat.le_of_ble_eq_true rfl), (Nat.le_of_ble_eq_true rfl)⟩) hP hD hS hA ?_
          clear hP hD hS
          intro u_75 _ H locs hP hD hS
          replace hf := hf u_75
          generalize y_73 u_75 = ζ_74 at hf hP hD ⊢
          clear h_72
          refine g_newT (w := XW d z b ζ_74.1) (tl := ζ_74.2) hx hb hts S.2.2.2.1 hK hP hD hS hA (ci := 16) in_X17 tyX17 tyX17_ok q1394 q1508 q129 rfl (fs := [.int (0 : Int32), .int (0 : Int32), .int (0 : Int32)]) (fun j hj => by rcases (show j = 0 ∨ j = 1 ∨ j = 2 by omega) with rfl | rfl | rfl <;> rfl) (Nat.le_of_ble_eq_true rfl) (Nat.le_of_ble_eq_true rfl) (w1 := fun q => (XW d z b ζ_74.1 ++ [(q, .inr (16, [.int (0 : Int32), .int (0 : Int32), .int (0 : Int32)]))])) (fun _ => rfl) dX0_store_94 ?_
          clear hP hD hS
          intro q_76 H hP hD hS
          replace hf := askU hf q_76
          replace hf := hf (fun _ => 0)
          refine lv_dup hx hb dX0_store_97 rfl ?_
          refine lv_aload_n hx hb dX0_store_98 rfl (lv_at hl 2 rfl) ?_
          refine g_get hx hb hts S.2.2.2.1 hK hP in_X0 0 rfl rfl 8 (by decide) q293 (fun _ h9 => h9) (v := .ref (b 13)) rfl dX0_store_99 ?_
          refine g_getN hx hb hts S.2.2.2.1 hK hP in_X8 13 rfl rfl 0 (by decide) q810 (fun _ h9 => h9) (v := .int (ζ_74.1.1 60)) rfl dX0_store_102 ?_
          refine lv_aload_n hx hb dX0_store_105 rfl (lv_at hl 2 rfl) ?_
          refine g_get hx hb hts S.2.2.2.1 hK hP in_X0 0 rfl rfl 8 (by decide) q293 (fun _ h9 => h9) (v := .ref (b 13)) rfl dX0_store_106 ?_
          refine g_getN hx hb hts S.2.2.2.1 hK hP in_X8 13 rfl rfl 1 (by decide) q812 (fun _ h9 => h9) (v := .int (ζ_74.1.1 61)) rfl dX0_store_109 ?_
          refine lv_aload_n hx hb dX0_store_112 rfl (lv_at hl 2 rfl) ?_
          obtain ⟨ζ_78, h_77, hf⟩ := b1_some hf
          obtain ⟨ζ_79, e_ζ_79⟩ : ∃ x, x = (xmrg ζ_74.1 ζ_78, ζ_74.2) := ⟨_, rfl⟩
          refine run_rS (w := (XW d z b ζ_74.1 ++ [(q_76, .inr (16, [.int (0 : Int32), .int (0 : Int32), .int (0 : Int32)]))])) (tl := ζ_74.2) (wr := [(b 17, .inr (18, [.int (ζ_74.1.1 70), .ref (b 18), .int (ζ_74.1.1 72)])), (b 18, .inl (d 4, 16, .inr (.inr (.inr (.inr (ζ_74.1.2.2.2.2 18)))))), (b 16, .inr (17, [.ref (b 19), .int (ζ_74.1.1 81), .int (ζ_74.1.1 82)])), (b 19, .inl (d 4, 17, .inr (.inr (.inr (.inr (ζ_74.1.2.2.2.2 19)))))), (q_76, .inr (16, [.int (0 : Int32), .int (0 : Int32), .int (0 : Int32)]))]) (w' := fun _ => (XW d z b ζ_79.1 ++ [(q_76, .inr (16, [.int (0 : Int32), .int (0 : Int32), .int (0 : Int32)]))])) (va_runV (As := []) (rest := [.int (ζ_74.1.1 61), .int (ζ_74.1.1 60), .ref q_76, .ref q_76]) S (tX0_here l D d z b (ζ_74.1.2.2.2.2 6 0) K ζ_74.1 ζ_78 h_77 _) (cwV 0 hts (lw_V q1093 q1095 qs30 q94 q1096) rfl rfl rfl (by decide +kernel) ⟨(Nat.le_of_ble_eq_true rfl), (Nat.le_of_ble_eq_true rfl)⟩) ⟨Pw.blind, (va_recv hK.1 hP (ci := 1) (q0 := 0) rfl rfl), fun U hU hW => Pw.cut (w := (XW d z b ζ_74.1 ++ [(q_76, .inr (16, [.int (0 : Int32), .int (0 : Int32), .int (0 : Int32)]))])) (tl := ζ_74.2) hK hP hD hZ hS hA [0, 1, 2, 3, 4, 5, 6, 7, 8, 9, 10, 11, 12, 13, 14, 15] rfl rfl hU hW⟩ rfl rfl hl.1 rfl (lv_room (Nat.le_of_ble_eq_true rfl)) dX0_store_113 ⟨(Nat.le_of_ble_eq_true rfl), (Nat.le_of_ble_eq_true rfl)⟩) hP hD hS hA [0, 1, 2, 3, 4, 5, 6, 7, 8, 9, 10, 11, 12, 13, 14, 15] [16, 17, 18, 19, 20] [5, 6, 7, 8, 9, 10, 11, 12, 13, 14, 15, 16, 17, 18, 19, 20, 0, 1, 2, 3, 4] rfl rfl rfl rfl (by decide) rfl (fun _ => by subst e_ζ_79; rfl) ?_
          clear hP hD hS
          intro _ _ H locs hP hD hS
          rw [show ζ_74.2 = ζ_79.2 from by subst e_ζ_79; rfl] at hP hD
          clear h_77
          replace hf := nm_some hf ζ_79 e_ζ_79
          clear e_ζ_79
          obtain ⟨r_81, ζ_82, h_80, hf⟩ := b2_some hf
          obtain ⟨ζ_83, e_ζ_83⟩ : ∃ x, x = (xmrg ζ_79.1 ζ_82, ζ_79.2) := ⟨_, rfl⟩
          refine run_i (w := (XW d z b ζ_79.1 ++ [(q_76, .inr (16, [.int (0 : Int32), .int (0 : Int32), .int (0 : Int32)]))])) (tl := ζ_79.2) (wr := [(b 17, .inr (18, [.int (ζ_79.1.1 70), .ref (b 18), .int (ζ_79.1.1 72)])), (b 18, .inl (d 4, 16, .inr (.inr (.inr (.inr (ζ_79.1.2.2.2.2 18)))))), (b 16, .inr (17, [.ref (b 19), .int (ζ_79.1.1 81), .int (ζ_79.1.1 82)])), (b 19, .inl (d 4, 17, .inr (.inr (.inr (.inr (ζ_79.1.2.2.2.2 19)))))), (q_76, .inr (16, [.int (0 : Int32), .int (0 : Int32), .int (0 : Int32)]))]) (w' := (XW d z b ζ_83.1 ++ [(q_76, .inr (16, [.int (0 : Int32), .int (0 : Int32), .int (0 : Int32)]))])) (va_runV (As := []) (rest := [.int (ζ_74.1.1 61), .int (ζ_74.1.1 60), .ref q_76, .ref q_76]) S (tX3_swr l D d z b (ζ_79.1.2.2.2.2 6 0) K ζ_79.1 r_81 ζ_82 h_80 _) (cwV 0 hts (lw_V q1119 q1120 q1121 q98 q1122) rfl rfl rfl (by decide +kernel) ⟨(Nat.le_of_ble_eq_true rfl), (Nat.le_of_ble_eq_true rfl)⟩) ⟨Pw.blind, (va_recv hK.1 hP (ci := 4) (q0 := 4) rfl rfl), fun U hU hW => Pw.cut (w := (XW d z b ζ_79.1 ++ [(q_76, .inr (16, [.int (0 : Int32), .int (0 : Int32), .int (0 : Int32)]))])) (tl := ζ_79.2) hK hP hD hZ hS hA [0, 1, 2, 3, 4, 5, 6, 7, 8, 9, 10, 11, 12, 13, 14, 15] rfl rfl hU hW⟩ rfl rfl hl.1 rfl (lv_room (Nat.le_of_ble_eq_true rfl)) dX0_store_116 ⟨(Nat.le_of_ble_eq_true rfl), (Nat.le_of_ble_eq_true rfl)⟩) hP hD hS hA [0, 1, 2, 3, 4, 5, 6, 7, 8, 9, 10, 11, 12, 13, 14, 15] [16, 17, 18, 19, 20] [5, 6, 7, 8, 9, 10, 11, 12, 13, 14, 15, 16, 17, 18, 19, 20, 0, 1, 2, 3, 4] rfl rfl rfl rfl (by decide) rfl (by subst e_ζ_83; rfl) ?_
          clear hP hD hS
          intro H locs hP hD hS
          rw [show ζ_79.2 = ζ_83.2 from by subst e_ζ_83; rfl] at hP hD
          clear h_80
          replace hf := nm_some hf ζ_83 e_ζ_83
          clear e_ζ_83
          obtain ⟨ζ_85, h_84, hf⟩ := b1_some hf
          refine run_v (w := (XW d z b ζ_83.1 ++ [(q_76, .inr (16, [.int (0 : Int32), .int (0 : Int32), .int (0 : Int32)]))])) (tl := ζ_83.2) (wr := [(b 0, .inr (1, [.ref (b 1), .int (ζ_83.1.1 1), .int (ζ_83.1.1 2), .ref (b 2), .ref (b 3), .ref (b 4), va_rf (ζ_83.1.2.2.2.2 6 0), .ref (b 7), .ref (b 13), .ref (b 16), .int (ζ_83.1.1 10)])), (b 1, .inl (d 2, 500, .inl (ζ_83.1.2.2.1 1))), (b 2, .inl (d 5, 2, .inr (.inr (.inr (.inr (fun j => some (z.2.2 j))))))), (b 3, .inl (d 6, 5, .inr (.inr (.inr (.inr (fun j => some (z.2.2 (2 + j)))))))), (b 4, .inr (4, [.int (ζ_83.1.1 20), .long (ζ_83.1.2.1 21), .long (ζ_83.1.2.1 22), .long (ζ_83.1.2.1 23), .ref (b 5), .ref (b 6), .ref (b 0)])), (b 5, .inr (2, [.long (ζ_83.1.2.1 30), .long (ζ_83.1.2.1 31)])), (b 6, .inr (2, [.long (ζ_83.1.2.1 32), .long (ζ_83.1.2.1 33)])), (b 7, .inr (6, [.int (ζ_83.1.1 40), .int (ζ_83.1.1 41), .int (ζ_83.1.1 42), .int (ζ_83.1.1 43), .int (ζ_83.1.1 44), .int (ζ_83.1.1 45), .ref (b 8), .ref (b 9), .ref (b 10), .int (ζ_83.1.1 49), .ref (b 11), .ref (b 12), .int (ζ_83.1.1 52)])), (b 8, .inl (d 0, 16, .inl (ζ_83.1.2.2.1 46))), (b 9, .inl (d 1, 16, .inr (.inl (ζ_83.1.2.2.2.1 47)))), (b 10, .inl (d 1, 16, .inr (.inl (ζ_83.1.2.2.2.1 48)))), (b 11, .inl (d 0, 8, .inl (ζ_83.1.2.2.1 50))), (b 12, .inl (d 0, 8, .inl (ζ_83.1.2.2.1 51))), (b 13, .inr (8, [.int (ζ_83.1.1 60), .int (ζ_83.1.1 61), .int (ζ_83.1.1 62), .int (ζ_83.1.1 63), .ref (b 14), .ref (b 15), .int (ζ_83.1.1 66), .ref (b 17)])), (b 14, .inl (d 0, 100, .inl (ζ_83.1.2.2.1 64))), (b 15, .inl (d 3, 100, .inl (ζ_83.1.2.2.1 65))), (b 17, .inr (18, [.int (ζ_83.1.1 70), .ref (b 18), .int (ζ_83.1.1 72)])), (b 18, .inl (d 4, 16, .inr (.inr (.inr (.inr (ζ_83.1.2.2.2.2 18)))))), (b 16, .inr (17, [.ref (b 19), .int (ζ_83.1.1 81), .int (ζ_83.1.1 82)])), (b 19, .inl (d 4, 17, .inr (.inr (.inr (.inr (ζ_83.1.2.2.2.2 19))))))]) (w' := (XW d z b ζ_83.1 ++ [(q_76, .inr (16, [.int ζ_85.1, .int ζ_85.2.1, .int ζ_85.2.2]))])) (va_runI (As := [.int (ζ_74.1.1 60), .int (ζ_74.1.1 61), .int r_81]) (rest := [.ref q_76]) S (tX17_init l D d z q_76 K (ζ_74.1.1 60) (ζ_74.1.1 61) r_81 ((0 : Int32), (0 : Int32), (0 : Int32)) ζ_85 h_84 _) (cwI 3 hts (lw_meth q1511) rfl rfl rfl (hts _ q129) (hts _ q1509) (hts _ q1510) rfl (by decide +kernel) ⟨(Nat.le_of_ble_eq_true rfl), (Nat.le_of_ble_eq_true rfl)⟩) ⟨Pw.blind, fun U hU hW => Pw.cut (w := (XW d z b ζ_83.1 ++ [(q_76, .inr (16, [.int (0 : Int32), .int (0 : Int32), .int (0 : Int32)]))])) (tl := ζ_83.2) hK hP hD hZ hS hA [20] rfl rfl hU hW⟩ rfl rfl hl.1 rfl (lv_room (Nat.le_of_ble_eq_true rfl)) dX0_store_119 ⟨(Nat.le_of_ble_eq_true rfl), (Nat.le_of_ble_eq_true rfl)⟩) hP hD hS hA [20] [0, 1, 2, 3, 4, 5, 6, 7, 8, 9, 10, 11, 12, 13, 14, 15, 16, 17, 18, 19] [0, 1, 2, 3, 4, 5, 6, 7, 8, 9, 10, 11, 12, 13, 14, 15, 16, 17, 18, 19, 20] rfl rfl rfl rfl (by decide) rfl rfl ?_
          clear hP hD hS
          intro H locs hP hD hS
          clear h_84
          refine lv_astore_n (lv' := [(3, .ref q_76), (2, .int (0 : Int32)), (1, .int r_7), (0, .ref (b 0))]) hx hb dX0_store_122 rfl hl (by decide) rfl (fun ls hl => ?_)
          refine lv_iload_n hx hb dX0_store_123 rfl (lv_at hl 1 rfl) ?_
          refine lv_if_eq (tgt := 143) hx hb dX0_store_124 (by decide) (fun c_86 => ?_) (fun c_86 => ?_)
          · replace hf := it_t hf c_86
            clear c_86
            refine lv_aload_n hx hb dX0_store_143 rfl (lv_at hl 3 rfl) ?_
            refine g_get hx hb hts S.2.2.2.1 hK hP in_X0 0 rfl rfl 8 (by decide) q293 (fun _ h9 => h9) (v := .ref (b 13)) rfl dX0_store_144 ?_
            refine g_getN hx hb hts S.2.2.2.1 hK hP in_X8 13 rfl rfl 7 (by decide) q823 (fun _ h9 => h9) (v := .ref (b 17)) rfl dX0_store_147 ?_
            refine lv_iload_n hx hb dX0_store_150 rfl (lv_at hl 2 rfl) ?_
            refine lv_aload_n hx hb dX0_store_151 rfl (lv_at hl 0 rfl) ?_
            obtain ⟨hes_87, hf⟩ := gaP_some hf
            obtain ⟨ζ_89, h_88, hf⟩ := b1_some hf
            obtain ⟨ζ_90, e_ζ_90⟩ : ∃ x, x = (xP (xI (xI ζ_83.1 70 ζ_89.1) 72 ζ_89.2.1) 18 ζ_89.2.2, ζ_83.2) := ⟨_, rfl⟩
            have hPc := toT_P (isC := [16, 17]) (isR := [0, 1, 2, 3, 4, 5, 6, 7, 8, 9, 10, 11, 12, 13, 14, 15, 18, 19, 20]) (wc := ALP d (b 17) (b 18) (ζ_83.1.1 70, ζ_83.1.1 72, ζ_83.1.2.2.2.2 18)) (wr := [(b 0, .inr (1, [.ref (b 1), .int (ζ_83.1.1 1), .int (ζ_83.1.1 2), .ref (b 2), .ref (b 3), .ref (b 4), va_rf (ζ_83.1.2.2.2.2 6 0), .ref (b 7), .ref (b 13), .ref (b 16), .int (ζ_83.1.1 10)])), (b 1, .inl (d 2, 500, .inl (ζ_83.1.2.2.1 1))), (b 2, .inl (d 5, 2, .inr (.inr (.inr (.inr (fun j => some (z.2.2 j))))))), (b 3, .inl (d 6, 5, .inr (.inr (.inr (.inr (fun j => some (z.2.2 (2 + j)))))))), (b 4, .inr (4, [.int (ζ_83.1.1 20), .long (ζ_83.1.2.1 21), .long (ζ_83.1.2.1 22), .long (ζ_83.1.2.1 23), .ref (b 5), .ref (b 6), .ref (b 0)])), (b 5, .inr (2, [.long (ζ_83.1.2.1 30), .long (ζ_83.1.2.1 31)])), (b 6, .inr (2, [.long (ζ_83.1.2.1 32), .long (ζ_83.1.2.1 33)])), (b 7, .inr (6, [.int (ζ_83.1.1 40), .int (ζ_83.1.1 41), .int (ζ_83.1.1 42), .int (ζ_83.1.1 43), .int (ζ_83.1.1 44), .int (ζ_83.1.1 45), .ref (b 8), .ref (b 9), .ref (b 10), .int (ζ_83.1.1 49), .ref (b 11), .ref (b 12), .int (ζ_83.1.1 52)])), (b 8, .inl (d 0, 16, .inl (ζ_83.1.2.2.1 46))), (b 9, .inl (d 1, 16, .inr (.inl (ζ_83.1.2.2.2.1 47)))), (b 10, .inl (d 1, 16, .inr (.inl (ζ_83.1.2.2.2.1 48)))), (b 11, .inl (d 0, 8, .inl (ζ_83.1.2.2.1 50))), (b 12, .inl (d 0, 8, .inl (ζ_83.1.2.2.1 51))), (b 13, .inr (8, [.int (ζ_83.1.1 60), .int (ζ_83.1.1 61), .int (ζ_83.1.1 62), .int (ζ_83.1.1 63), .ref (b 14), .ref (b 15), .int (ζ_83.1.1 66), .ref (b 17)])), (b 14, .inl (d 0, 100, .inl (ζ_83.1.2.2.1 64))), (b 15, .inl (d 3, 100, .inl (ζ_83.1.2.2.1 65))), (b 16, .inr (17, [.ref (b 19), .int (ζ_83.1.1 81), .int (ζ_83.1.1 82)])), (b 19, .inl (d 4, 17, .inr (.inr (.inr (.inr (ζ_83.1.2.2.2.2 19)))))), (q_76, .inr (16, [.int ζ_85.1, .int ζ_85.2.1, .int ζ_85.2.2]))]) (w := (XW d z b ζ_83.1 ++ [(q_76, .inr (16, [.int ζ_85.1, .int ζ_85.2.1, .int ζ_85.2.2]))])) (tl := ζ_83.2) hP rfl rfl
            have hDc := toT_D (isC := [16, 17]) (isR := [0, 1, 2, 3, 4, 5, 6, 7, 8, 9, 10, 11, 12, 13, 14, 15, 18, 19, 20]) (wc := ALP d (b 17) (b 18) (ζ_83.1.1 70, ζ_83.1.1 72, ζ_83.1.2.2.2.2 18)) (wr := [(b 0, .inr (1, [.ref (b 1), .int (ζ_83.1.1 1), .int (ζ_83.1.1 2), .ref (b 2), .ref (b 3), .ref (b 4), va_rf (ζ_83.1.2.2.2.2 6 0), .ref (b 7), .ref (b 13), .ref (b 16), .int (ζ_83.1.1 10)])), (b 1, .inl (d 2, 500, .inl (ζ_83.1.2.2.1 1))), (b 2, .inl (d 5, 2, .inr (.inr (.inr (.inr (fun j => some (z.2.2 j))))))), (b 3, .inl (d 6, 5, .inr (.inr (.inr (.inr (fun j => some (z.2.2 (2 + j)))))))), (b 4, .inr (4, [.int (ζ_83.1.1 20), .long (ζ_83.1.2.1 21), .long (ζ_83.1.2.1 22), .long (ζ_83.1.2.1 23), .ref (b 5), .ref (b 6), .ref (b 0)])), (b 5, .inr (2, [.long (ζ_83.1.2.1 30), .long (ζ_83.1.2.1 31)])), (b 6, .inr (2, [.long (ζ_83.1.2.1 32), .long (ζ_83.1.2.1 33)])), (b 7, .inr (6, [.int (ζ_83.1.1 40), .int (ζ_83.1.1 41), .int (ζ_83.1.1 42), .int (ζ_83.1.1 43), .int (ζ_83.1.1 44), .int (ζ_83.1.1 45), .ref (b 8), .ref (b 9), .ref (b 10), .int (ζ_83.1.1 49), .ref (b 11), .ref (b 12), .int (ζ_83.1.1 52)])), (b 8, .inl (d 0, 16, .inl (ζ_83.1.2.2.1 46))), (b 9, .inl (d 1, 16, .inr (.inl (ζ_83.1.2.2.2.1 47)))), (b 10, .inl (d 1, 16, .inr (.inl (ζ_83.1.2.2.2.1 48)))), (b 11, .inl (d 0, 8, .inl (ζ_83.1.2.2.1 50))), (b 12, .inl (d 0, 8, .inl (ζ_83.1.2.2.1 51))), (b 13, .inr (8, [.int (ζ_83.1.1 60), .int (ζ_83.1.1 61), .int (ζ_83.1.1 62), .int (ζ_83.1.1 63), .ref (b 14), .ref (b 15), .int (ζ_83.1.1 66), .ref (b 17)])), (b 14, .inl (d 0, 100, .inl (ζ_83.1.2.2.1 64))), (b 15, .inl (d 3, 100, .inl (ζ_83.1.2.2.1 65))), (b 16, .inr (17, [.ref (b 19), .int (ζ_83.1.1 81), .int (ζ_83.1.1 82)])), (b 19, .inl (d 4, 17, .inr (.inr (.inr (.inr (ζ_83.1.2.2.2.2 19)))))), (q_76, .inr (16, [.int ζ_85.1, .int ζ_85.2.1, .int ζ_85.2.2]))]) (w := (XW d z b ζ_83.1 ++ [(q_76, .inr (16, [.int ζ_85.1, .int ζ_85.2.1, .int ζ_85.2.2]))])) (tl := ζ_83.2) hD rfl rfl rfl
            refine runW_v (va_runV (As := [.int r_7, .ref q_76]) (rest := []) S (tJ14_add_3 l D d z (b 17) (b 18) ([(b 0, .inr (1, [.ref (b 1), .int (ζ_83.1.1 1), .int (ζ_83.1.1 2), .ref (b 2), .ref (b 3), .ref (b 4), va_rf (ζ_83.1.2.2.2.2 6 0), .ref (b 7), .ref (b 13), .ref (b 16), .int (ζ_83.1.1 10)])), (b 1, .inl (d 2, 500, .inl (ζ_83.1.2.2.1 1))), (b 2, .inl (d 5, 2, .inr (.inr (.inr (.inr (fun j => some (z.2.2 j))))))), (b 3, .inl (d 6, 5, .inr (.inr (.inr (.inr (fun j => some (z.2.2 (2 + j)))))))), (b 4, .inr (4, [.int (ζ_83.1.1 20), .long (ζ_83.1.2.1 21), .long (ζ_83.1.2.1 22), .long (ζ_83.1.2.1 23), .ref (b 5), .ref (b 6), .ref (b 0)])), (b 5, .inr (2, [.long (ζ_83.1.2.1 30), .long (ζ_83.1.2.1 31)])), (b 6, .inr (2, [.long (ζ_83.1.2.1 32), .long (ζ_83.1.2.1 33)])), (b 7, .inr (6, [.int (ζ_83.1.1 40), .int (ζ_83.1.1 41), .int (ζ_83.1.1 42), .int (ζ_83.1.1 43), .int (ζ_83.1.1 44), .int (ζ_83.1.1 45), .ref (b 8), .ref (b 9), .ref (b 10), .int (ζ_83.1.1 49), .ref (b 11), .ref (b 12), .int (ζ_83.1.1 52)])), (b 8, .inl (d 0, 16, .inl (ζ_83.1.2.2.1 46))), (b 9, .inl (d 1, 16, .inr (.inl (ζ_83.1.2.2.2.1 47)))), (b 10, .inl (d 1, 16, .inr (.inl (ζ_83.1.2.2.2.1 48)))), (b 11, .inl (d 0, 8, .inl (ζ_83.1.2.2.1 50))), (b 12, .inl (d 0, 8, .inl (ζ_83.1.2.2.1 51))), (b 13, .inr (8, [.int (ζ_83.1.1 60), .int (ζ_83.1.1 61), .int (ζ_83.1.1 62), .int (ζ_83.1.1 63), .ref (b 14), .ref (b 15), .int (ζ_83.1.1 66), .ref (b 17)])), (b 14, .inl (d 0, 100, .inl (ζ_83.1.2.2.1 64))), (b 15, .inl (d 3, 100, .inl (ζ_83.1.2.2.1 65))), (b 16, .inr (17, [.ref (b 19), .int (ζ_83.1.1 81), .int (ζ_83.1.1 82)])), (b 19, .inl (d 4, 17, .inr (.inr (.inr (.inr (ζ_83.1.2.2.2.2 19)))))), (q_76, .inr (16, [.int ζ_85.1, .int ζ_85.2.1, .int ζ_85.2.2]))] ++ ζ_83.2) K r_7 q_76 (ζ_83.1.1 70, ζ_83.1.1 72, ζ_83.1.2.2.2.2 18) ζ_89 h_88 ⟨_, List.mem_append_left _ (List.mem_of_getElem? (i := 18) rfl)⟩ (fun j q hq => (hes_87 j q hq).imp fun _ h => List.mem_append_right _ h) _) (cwV 2 hts (lw_V q1530 q1531 q1532 q118 q1533) rfl rfl rfl (by decide +kernel) ⟨(Nat.le_of_ble_eq_true rfl), (Nat.le_of_ble_eq_true rfl)⟩) ⟨Pw.blind, (va_recv hK.1 hP (ci := 18) (q0 := 16) rfl rfl), fun U hU hW => Pw.at hK hPc hDc hZ hS hA hU hW⟩ rfl rfl hl.1 rfl (lv_room (Nat.le_of_ble_eq_true rfl)) dX0_store_152 ⟨(Nat.le_of_ble_eq_true rfl), (Nat.le_of_ble_eq_true rfl)⟩) hPc hDc hS hA ?_
            clear hP hD hS hPc hDc
            intro H locs hP hD hS
            replace hP := ofT_P (perm := [2, 3, 4, 5, 6, 7, 8, 9, 10, 11, 12, 13, 14, 15, 16, 17, 0, 1, 18, 19, 20]) (w' := (XW d z b ζ_90.1 ++ [(q_76, .inr (16, [.int ζ_85.1, .int ζ_85.2.1, .int ζ_85.2.2]))])) hP (by subst e_ζ_90; rfl)
            replace hD := ofT_D (perm := [2, 3, 4, 5, 6, 7, 8, 9, 10, 11, 12, 13, 14, 15, 16, 17, 0, 1, 18, 19, 20]) (w' := (XW d z b ζ_90.1 ++ [(q_76, .inr (16, [.int ζ_85.1, .int ζ_85.2.1, .int ζ_85.2.2]))])) hD rfl (by subst e_ζ_90; rfl)
            rw [show ζ_83.2 = ζ_90.2 from by subst e_ζ_90; rfl] at hP hD
            clear h_88
            replace hf := nm_some hf ζ_90 e_ζ_90
            clear e_ζ_90
            refine lv_iload_n hx hb dX0_store_155 rfl (lv_at hl 2 rfl) ?_
            refine W.widen (k := 6) (n := 230) (Nat.le_of_ble_eq_true rfl) (Nat.le_of_ble_eq_true rfl) ?_
            obtain ⟨ζ_91, e_ζ_91⟩ : ∃ x, x = (ζ_90.1, [(q_76, .inr (16, [.int ζ_85.1, .int ζ_85.2.1, .int ζ_85.2.2]))] ++ ζ_90.2) := ⟨_, rfl⟩
            replace hf := nm_some hf ζ_91 e_ζ_91
            replace hP := kp_P (w := XW d z b ζ_90.1) (ks := [(q_76, .inr (16, [.int ζ_85.1, .int ζ_85.2.1, .int ζ_85.2.2]))]) (w' := XW d z b ζ_91.1) (t2 := ζ_91.2) hP (by subst e_ζ_91; rfl) (by subst e_ζ_91; rfl)
            replace hD := kp_D (w := XW d z b ζ_90.1) (ks := [(q_76, .inr (16, [.int ζ_85.1, .int ζ_85.2.1, .int ζ_85.2.2]))]) (w' := XW d z b ζ_91.1) (t2 := ζ_91.2) hD (by subst e_ζ_91; rfl) (by subst e_ζ_91; rfl)
            clear e_ζ_91
            exact hret _ _ _ _ _ _ _ hf dX0_store_156 hP hD hS
          · replace hf := it_f hf c_86
            clear c_86
            refine lv_aload_n hx hb dX0_store_127 rfl (lv_at hl 3 rfl) ?_
            refine g_get hx hb hts S.2.2.2.1 hK hP in_X0 0 rfl rfl 8 (by decide) q293 (fun _ h9 => h9) (v := .ref (b 13)) rfl dX0_store_128 ?_
            refine g_getN hx hb hts S.2.2.2.1 hK hP in_X8 13 rfl rfl 7 (by decide) q823 (fun _ h9 => h9) (v := .ref (b 17)) rfl dX0_store_131 ?_
            refine lv_iload_n hx hb dX0_store_134 rfl (lv_at hl 2 rfl) ?_
            refine lv_aload_n hx hb dX0_store_135 rfl (lv_at hl 0 rfl) ?_
            obtain ⟨r_93, ζ_94, h_92, hf⟩ := b2_some hf
            obtain ⟨ζ_95, e_ζ_95⟩ : ∃ x, x = (xP (xI (xI ζ_83.1 70 ζ_94.1) 72 ζ_94.2.1) 18 ζ_94.2.2, ζ_83.2) := ⟨_, rfl⟩
            have hPc := toT_P (isC := [16, 17]) (isR := [0, 1, 2, 3, 4, 5, 6, 7, 8, 9, 10, 11, 12, 13, 14, 15, 18, 19, 20]) (wc := ALP d (b 17) (b 18) (ζ_83.1.1 70, ζ_83.1.1 72, ζ_83.1.2.2.2.2 18)) (wr := [(b 0, .inr (1, [.ref (b 1), .int (ζ_83.1.1 1), .int (ζ_83.1.1 2), .ref (b 2), .ref (b 3), .ref (b 4), va_rf (ζ_83.1.2.2.2.2 6 0), .ref (b 7), .ref (b 13), .ref (b 16), .int (ζ_83.1.1 10)])), (b 1, .inl (d 2, 500, .inl (ζ_83.1.2.2.1 1))), (b 2, .inl (d 5, 2, .inr (.inr (.inr (.inr (fun j => some (z.2.2 j))))))), (b 3, .inl (d 6, 5, .inr (.inr (.inr (.inr (fun j => some (z.2.2 (2 + j)))))))), (b 4, .inr (4, [.int (ζ_83.1.1 20), .long (ζ_83.1.2.1 21), .long (ζ_83.1.2.1 22), .long (ζ_83.1.2.1 23), .ref (b 5), .ref (b 6), .ref (b 0)])), (b 5, .inr (2, [.long (ζ_83.1.2.1 30), .long (ζ_83.1.2.1 31)])), (b 6, .inr (2, [.long (ζ_83.1.2.1 32), .long (ζ_83.1.2.1 33)])), (b 7, .inr (6, [.int (ζ_83.1.1 40), .int (ζ_83.1.1 41), .int (ζ_83.1.1 42), .int (ζ_83.1.1 43), .int (ζ_83.1.1 44), .int (ζ_83.1.1 45), .ref (b 8), .ref (b 9), .ref (b 10), .int (ζ_83.1.1 49), .ref (b 11), .ref (b 12), .int (ζ_83.1.1 52)])), (b 8, .inl (d 0, 16, .inl (ζ_83.1.2.2.1 46))), (b 9, .inl (d 1, 16, .inr (.inl (ζ_83.1.2.2.2.1 47)))), (b 10, .inl (d 1, 16, .inr (.inl (ζ_83.1.2.2.2.1 48)))), (b 11, .inl (d 0, 8, .inl (ζ_83.1.2.2.1 50))), (b 12, .inl (d 0, 8, .inl (ζ_83.1.2.2.1 51))), (b 13, .inr (8, [.int (ζ_83.1.1 60), .int (ζ_83.1.1 61), .int (ζ_83.1.1 62), .int (ζ_83.1.1 63), .ref (b 14), .ref (b 15), .int (ζ_83.1.1 66), .ref (b 17)])), (b 14, .inl (d 0, 100, .inl (ζ_83.1.2.2.1 64))), (b 15, .inl (d 3, 100, .inl (ζ_83.1.2.2.1 65))), (b 16, .inr (17, [.ref (b 19), .int (ζ_83.1.1 81), .int (ζ_83.1.1 82)])), (b 19, .inl (d 4, 17, .inr (.inr (.inr (.inr (ζ_83.1.2.2.2.2 19)))))), (q_76, .inr (16, [.int ζ_85.1, .int ζ_85.2.1, .int ζ_85.2.2]))]) (w := (XW d z b ζ_83.1 ++ [(q_76, .inr (16, [.int ζ_85.1, .int ζ_85.2.1, .int ζ_85.2.2]))])) (tl := ζ_83.2) hP rfl rfl
            have hDc := toT_D (isC := [16, 17]) (isR := [0, 1, 2, 3, 4, 5, 6, 7, 8, 9, 10, 11, 12, 13, 14, 15, 18, 19, 20]) (wc := ALP d (b 17) (b 18) (ζ_83.1.1 70, ζ_83.1.1 72, ζ_83.1.2.2.2.2 18)) (wr := [(b 0, .inr (1, [.ref (b 1), .int (ζ_83.1.1 1), .int (ζ_83.1.1 2), .ref (b 2), .ref (b 3), .ref (b 4), va_rf (ζ_83.1.2.2.2.2 6 0), .ref (b 7), .ref (b 13), .ref (b 16), .int (ζ_83.1.1 10)])), (b 1, .inl (d 2, 500, .inl (ζ_83.1.2.2.1 1))), (b 2, .inl (d 5, 2, .inr (.inr (.inr (.inr (fun j => some (z.2.2 j))))))), (b 3, .inl (d 6, 5, .inr (.inr (.inr (.inr (fun j => some (z.2.2 (2 + j)))))))), (b 4, .inr (4, [.int (ζ_83.1.1 20), .long (ζ_83.1.2.1 21), .long (ζ_83.1.2.1 22), .long (ζ_83.1.2.1 23), .ref (b 5), .ref (b 6), .ref (b 0)])), (b 5, .inr (2, [.long (ζ_83.1.2.1 30), .long (ζ_83.1.2.1 31)])), (b 6, .inr (2, [.long (ζ_83.1.2.1 32), .long (ζ_83.1.2.1 33)])), (b 7, .inr (6, [.int (ζ_83.1.1 40), .int (ζ_83.1.1 41), .int (ζ_83.1.1 42), .int (ζ_83.1.1 43), .int (ζ_83.1.1 44), .int (ζ_83.1.1 45), .ref (b 8), .ref (b 9), .ref (b 10), .int (ζ_83.1.1 49), .ref (b 11), .ref (b 12), .int (ζ_83.1.1 52)])), (b 8, .inl (d 0, 16, .inl (ζ_83.1.2.2.1 46))), (b 9, .inl (d 1, 16, .inr (.inl (ζ_83.1.2.2.2.1 47)))), (b 10, .inl (d 1, 16, .inr (.inl (ζ_83.1.2.2.2.1 48)))), (b 11, .inl (d 0, 8, .inl (ζ_83.1.2.2.1 50))), (b 12, .inl (d 0, 8, .inl (ζ_83.1.2.2.1 51))), (b 13, .inr (8, [.int (ζ_83.1.1 60), .int (ζ_83.1.1 61), .int (ζ_83.1.1 62), .int (ζ_83.1.1 63), .ref (b 14), .ref (b 15), .int (ζ_83.1.1 66), .ref (b 17)])), (b 14, .inl (d 0, 100, .inl (ζ_83.1.2.2.1 64))), (b 15, .inl (d 3, 100, .inl (ζ_83.1.2.2.1 65))), (b 16, .inr (17, [.ref (b 19), .int (ζ_83.1.1 81), .int (ζ_83.1.1 82)])), (b 19, .inl (d 4, 17, .inr (.inr (.inr (.inr (ζ_83.1.2.2.2.2 19)))))), (q_76, .inr (16, [.int ζ_85.1, .int ζ_85.2.1, .int ζ_85.2.2]))]) (w := (XW d z b ζ_83.1 ++ [(q_76, .inr (16, [.int ζ_85.1, .int ζ_85.2.1, .int ζ_85.2.2]))])) (tl := ζ_83.2) hD rfl rfl rfl
            refine runW_rS (va_runV (As := [.int r_7, .ref q_76]) (rest := []) S (tJ14_set l D d z (b 17) (b 18) ([(b 0, .inr (1, [.ref (b 1), .int (ζ_83.1.1 1), .int (ζ_83.1.1 2), .ref (b 2), .ref (b 3), .ref (b 4), va_rf (ζ_83.1.2.2.2.2 6 0), .ref (b 7), .ref (b 13), .ref (b 16), .int (ζ_83.1.1 10)])), (b 1, .inl (d 2, 500, .inl (ζ_83.1.2.2.1 1))), (b 2, .inl (d 5, 2, .inr (.inr (.inr (.inr (fun j => some (z.2.2 j))))))), (b 3, .inl (d 6, 5, .inr (.inr (.inr (.inr (fun j => some (z.2.2 (2 + j)))))))), (b 4, .inr (4, [.int (ζ_83.1.1 20), .long (ζ_83.1.2.1 21), .long (ζ_83.1.2.1 22), .long (ζ_83.1.2.1 23), .ref (b 5), .ref (b 6), .ref (b 0)])), (b 5, .inr (2, [.long (ζ_83.1.2.1 30), .long (ζ_83.1.2.1 31)])), (b 6, .inr (2, [.long (ζ_83.1.2.1 32), .long (ζ_83.1.2.1 33)])), (b 7, .inr (6, [.int (ζ_83.1.1 40), .int (ζ_83.1.1 41), .int (ζ_83.1.1 42), .int (ζ_83.1.1 43), .int (ζ_83.1.1 44), .int (ζ_83.1.1 45), .ref (b 8), .ref (b 9), .ref (b 10), .int (ζ_83.1.1 49), .ref (b 11), .ref (b 12), .int (ζ_83.1.1 52)])), (b 8, .inl (d 0, 16, .inl (ζ_83.1.2.2.1 46))), (b 9, .inl (d 1, 16, .inr (.inl (ζ_83.1.2.2.2.1 47)))), (b 10, .inl (d 1, 16, .inr (.inl (ζ_83.1.2.2.2.1 48)))), (b 11, .inl (d 0, 8, .inl (ζ_83.1.2.2.1 50))), (b 12, .inl (d 0, 8, .inl (ζ_83.1.2.2.1 51))), (b 13, .inr (8, [.int (ζ_83.1.1 60), .int (ζ_83.1.1 61), .int (ζ_83.1.1 62), .int (ζ_83.1.1 63), .ref (b 14), .ref (b 15), .int (ζ_83.1.1 66), .ref (b 17)])), (b 14, .inl (d 0, 100, .inl (ζ_83.1.2.2.1 64))), (b 15, .inl (d 3, 100, .inl (ζ_83.1.2.2.1 65))), (b 16, .inr (17, [.ref (b 19), .int (ζ_83.1.1 81), .int (ζ_83.1.1 82)])), (b 19, .inl (d 4, 17, .inr (.inr (.inr (.inr (ζ_83.1.2.2.2.2 19)))))), (q_76, .inr (16, [.int ζ_85.1, .int ζ_85.2.1, .int ζ_85.2.2]))] ++ ζ_83.2) K r_7 q_76 (ζ_83.1.1 70, ζ_83.1.1 72, ζ_83.1.2.2.2.2 18) r_93 ζ_94 h_92 ⟨_, List.mem_append_left _ (List.mem_of_getElem? (i := 18) rfl)⟩ _) (cwV 2 hts (lw_V q1526 q1527 q1528 q118 q1529) rfl rfl rfl (by decide +kernel) ⟨(Nat.le_of_ble_eq_true rfl), (Nat.le_of_ble_eq_true rfl)⟩) ⟨Pw.blind, (va_recv hK.1 hP (ci := 18) (q0 := 16) rfl rfl), fun U hU hW => Pw.at hK hPc hDc hZ hS hA hU hW⟩ rfl rfl hl.1 rfl (lv_room (Nat.le_of_ble_eq_true rfl)) dX0_store_136 ⟨(Nat.le_of_ble_eq_true rfl), (Nat.le_of_ble_eq_true rfl)⟩) hPc hDc hS hA ?_
            clear hP hD hS hPc hDc
            intro _ _ H locs hP hD hS
            replace hP := ofT_P (perm := [2, 3, 4, 5, 6, 7, 8, 9, 10, 11, 12, 13, 14, 15, 16, 17, 0, 1, 18, 19, 20]) (w' := (XW d z b ζ_95.1 ++ [(q_76, .inr (16, [.int ζ_85.1, .int ζ_85.2.1, .int ζ_85.2.2]))])) hP (by subst e_ζ_95; rfl)
            replace hD := ofT_D (perm := [2, 3, 4, 5, 6, 7, 8, 9, 10, 11, 12, 13, 14, 15, 16, 17, 0, 1, 18, 19, 20]) (w' := (XW d z b ζ_95.1 ++ [(q_76, .inr (16, [.int ζ_85.1, .int ζ_85.2.1, .int ζ_85.2.2]))])) hD rfl (by subst e_ζ_95; rfl)
            rw [show ζ_83.2 = ζ_95.2 from by subst e_ζ_95; rfl] at hP hD
            clear h_92
            replace hf := nm_some hf ζ_95 e_ζ_95
            clear e_ζ_95
            refine lv_pop hx hb dX0_store_139 rfl ?_
            refine lv_goto (tgt := 155) hx hb dX0_store_140 (by decide) ?_
            refine lv_iload_n hx hb dX0_store_155 rfl (lv_at hl 2 rfl) ?_
            refine W.widen (k := 6) (n := 230) (Nat.le_of_ble_eq_true rfl) (Nat.le_of_ble_eq_true rfl) ?_
            obtain ⟨ζ_96, e_ζ_96⟩ : ∃ x, x = (ζ_95.1, [(q_76, .inr (16, [.int ζ_85.1, .int ζ_85.2.1, .int ζ_85.2.2]))] ++ ζ_95.2) := ⟨_, rfl⟩
            replace hf := nm_some hf ζ_96 e_ζ_96
            replace hP := kp_P (w := XW d z b ζ_95.1) (ks := [(q_76, .inr (16, [.int ζ_85.1, .int ζ_85.2.1, .int ζ_85.2.2]))]) (w' := XW d z b ζ_96.1) (t2 := ζ_96.2) hP (by subst e_ζ_96; rfl) (by subst e_ζ_96; rfl)
            replace hD := kp_D (w := XW d z b ζ_95.1) (ks := [(q_76, .inr (16, [.int ζ_85.1, .int ζ_85.2.1, .int ζ_85.2.2]))]) (w' := XW d z b ζ_96.1) (t2 := ζ_96.2) hD (by subst e_ζ_96; rfl) (by subst e_ζ_96; rfl)
            clear e_ζ_96
            exact hret _ _ _ _ _ _ _ hf dX0_store_156 hP hD hS
        · replace hf := itU_t hf c_71
          clear c_71
          refine lv_aload_n hx hb dX0_store_72 rfl (lv_at hl 2 rfl) ?_
          refine g_get hx hb hts S.2.2.2.1 hK hP in_X0 0 rfl rfl 8 (by decide) q293 (fun _ h9 => h9) (v := .ref (b 13)) rfl dX0_store_73 ?_
          refine g_getN hx hb hts S.2.2.2.1 hK hP in_X8 13 rfl rfl 7 (by decide) q823 (fun _ h9 => h9) (v := .ref (b 17)) rfl dX0_store_76 ?_
          obtain ⟨r_98, h_97, hf⟩ := b1U hf
          have hPc := toT_P (isC := [16, 17]) (isR := [0, 1, 2, 3, 4, 5, 6, 7, 8, 9, 10, 11, 12, 13, 14, 15, 18, 19]) (wc := ALP d (b 17) (b 18) (ζ_8.1.1 70, ζ_8.1.1 72, ζ_8.1.2.2.2.2 18)) (wr := [(b 0, .inr (1, [.ref (b 1), .int (ζ_8.1.1 1), .int (ζ_8.1.1 2), .ref (b 2), .ref (b 3), .ref (b 4), va_rf (ζ_8.1.2.2.2.2 6 0), .ref (b 7), .ref (b 13), .ref (b 16), .int (ζ_8.1.1 10)])), (b 1, .inl (d 2, 500, .inl (ζ_8.1.2.2.1 1))), (b 2, .inl (d 5, 2, .inr (.inr (.inr (.inr (fun j => some (z.2.2 j))))))), (b 3, .inl (d 6, 5, .inr (.inr (.inr (.inr (fun j => some (z.2.2 (2 + j)))))))), (b 4, .inr (4, [.int (ζ_8.1.1 20), .long (ζ_8.1.2.1 21), .long (ζ_8.1.2.1 22), .long (ζ_8.1.2.1 23), .ref (b 5), .ref (b 6), .ref (b 0)])), (b 5, .inr (2, [.long (ζ_8.1.2.1 30), .long (ζ_8.1.2.1 31)])), (b 6, .inr (2, [.long (ζ_8.1.2.1 32), .long (ζ_8.1.2.1 33)])), (b 7, .inr (6, [.int (ζ_8.1.1 40), .int (ζ_8.1.1 41), .int (ζ_8.1.1 42), .int (ζ_8.1.1 43), .int (ζ_8.1.1 44), .int (ζ_8.1.1 45), .ref (b 8), .ref (b 9), .ref (b 10), .int (ζ_8.1.1 49), .ref (b 11), .ref (b 12), .int (ζ_8.1.1 52)])), (b 8, .inl (d 0, 16, .inl (ζ_8.1.2.2.1 46))), (b 9, .inl (d 1, 16, .inr (.inl (ζ_8.1.2.2.2.1 47)))), (b 10, .inl (d 1, 16, .inr (.inl (ζ_8.1.2.2.2.1 48)))), (b 11, .inl (d 0, 8, .inl (ζ_8.1.2.2.1 50))), (b 12, .inl (d 0, 8, .inl (ζ_8.1.2.2.1 51))), (b 13, .inr (8, [.int (ζ_8.1.1 60), .int (ζ_8.1.1 61), .int (ζ_8.1.1 62), .int (ζ_8.1.1 63), .ref (b 14), .ref (b 15), .int (ζ_8.1.1 66), .ref (b 17)])), (b 14, .inl (d 0, 100, .inl (ζ_8.1.2.2.1 64))), (b 15, .inl (d 3, 100, .inl (ζ_8.1.2.2.1 65))), (b 16, .inr (17, [.ref (b 19), .int (ζ_8.1.1 81), .int (ζ_8.1.1 82)])), (b 19, .inl (d 4, 17, .inr (.inr (.inr (.inr (ζ_8.1.2.2.2.2 19))))))]) (w := XW d z b ζ_8.1) (tl := ζ_8.2) hP rfl rfl
          have hDc := toT_D (isC := [16, 17]) (isR := [0, 1, 2, 3, 4, 5, 6, 7, 8, 9, 10, 11, 12, 13, 14, 15, 18, 19]) (wc := ALP d (b 17) (b 18) (ζ_8.1.1 70, ζ_8.1.1 72, ζ_8.1.2.2.2.2 18)) (wr := [(b 0, .inr (1, [.ref (b 1), .int (ζ_8.1.1 1), .int (ζ_8.1.1 2), .ref (b 2), .ref (b 3), .ref (b 4), va_rf (ζ_8.1.2.2.2.2 6 0), .ref (b 7), .ref (b 13), .ref (b 16), .int (ζ_8.1.1 10)])), (b 1, .inl (d 2, 500, .inl (ζ_8.1.2.2.1 1))), (b 2, .inl (d 5, 2, .inr (.inr (.inr (.inr (fun j => some (z.2.2 j))))))), (b 3, .inl (d 6, 5, .inr (.inr (.inr (.inr (fun j => some (z.2.2 (2 + j)))))))), (b 4, .inr (4, [.int (ζ_8.1.1 20), .long (ζ_8.1.2.1 21), .long (ζ_8.1.2.1 22), .long (ζ_8.1.2.1 23), .ref (b 5), .ref (b 6), .ref (b 0)])), (b 5, .inr (2, [.long (ζ_8.1.2.1 30), .long (ζ_8.1.2.1 31)])), (b 6, .inr (2, [.long (ζ_8.1.2.1 32), .long (ζ_8.1.2.1 33)])), (b 7, .inr (6, [.int (ζ_8.1.1 40), .int (ζ_8.1.1 41), .int (ζ_8.1.1 42), .int (ζ_8.1.1 43), .int (ζ_8.1.1 44), .int (ζ_8.1.1 45), .ref (b 8), .ref (b 9), .ref (b 10), .int (ζ_8.1.1 49), .ref (b 11), .ref (b 12), .int (ζ_8.1.1 52)])), (b 8, .inl (d 0, 16, .inl (ζ_8.1.2.2.1 46))), (b 9, .inl (d 1, 16, .inr (.inl (ζ_8.1.2.2.2.1 47)))), (b 10, .inl (d 1, 16, .inr (.inl (ζ_8.1.2.2.2.1 48)))), (b 11, .inl (d 0, 8, .inl (ζ_8.1.2.2.1 50))), (b 12, .inl (d 0, 8, .inl (ζ_8.1.2.2.1 51))), (b 13, .inr (8, [.int (ζ_8.1.1 60), .int (ζ_8.1.1 61), .int (ζ_8.1.1 62), .int (ζ_8.1.1 63), .ref (b 14), .ref (b 15), .int (ζ_8.1.1 66), .ref (b 17)])), (b 14, .inl (d 0, 100, .inl (ζ_8.1.2.2.1 64))), (b 15, .inl (d 3, 100, .inl (ζ_8.1.2.2.1 65))), (b 16, .inr (17, [.ref (b 19), .int (ζ_8.1.1 81), .int (ζ_8.1.1 82)])), (b 19, .inl (d 4, 17, .inr (.inr (.inr (.inr (ζ_8.1.2.2.2.2 19))))))]) (w := XW d z b ζ_8.1) (tl := ζ_8.2) hD rfl rfl rfl
          refine runW_i (va_runV (As := []) (rest := []) S (tJ14_size l D d z (b 17) (b 18) ([(b 0, .inr (1, [.ref (b 1), .int (ζ_8.1.1 1), .int (ζ_8.1.1 2), .ref (b 2), .ref (b 3), .ref (b 4), va_rf (ζ_8.1.2.2.2.2 6 0), .ref (b 7), .ref (b 13), .ref (b 16), .int (ζ_8.1.1 10)])), (b 1, .inl (d 2, 500, .inl (ζ_8.1.2.2.1 1))), (b 2, .inl (d 5, 2, .inr (.inr (.inr (.inr (fun j => some (z.2.2 j))))))), (b 3, .inl (d 6, 5, .inr (.inr (.inr (.inr (fun j => some (z.2.2 (2 + j)))))))), (b 4, .inr (4, [.int (ζ_8.1.1 20), .long (ζ_8.1.2.1 21), .long (ζ_8.1.2.1 22), .long (ζ_8.1.2.1 23), .ref (b 5), .ref (b 6), .ref (b 0)])), (b 5, .inr (2, [.long (ζ_8.1.2.1 30), .long (ζ_8.1.2.1 31)])), (b 6, .inr (2, [.long (ζ_8.1.2.1 32), .long (ζ_8.1.2.1 33)])), (b 7, .inr (6, [.int (ζ_8.1.1 40), .int (ζ_8.1.1 41), .int (ζ_8.1.1 42), .int (ζ_8.1.1 43), .int (ζ_8.1.1 44), .int (ζ_8.1.1 45), .ref (b 8), .ref (b 9), .ref (b 10), .int (ζ_8.1.1 49), .ref (b 11), .ref (b 12), .int (ζ_8.1.1 52)])), (b 8, .inl (d 0, 16, .inl (ζ_8.1.2.2.1 46))), (b 9, .inl (d 1, 16, .inr (.inl (ζ_8.1.2.2.2.1 47)))), (b 10, .inl (d 1, 16, .inr (.inl (ζ_8.1.2.2.2.1 48)))), (b 11, .inl (d 0, 8, .inl (ζ_8.1.2.2.1 50))), (b 12, .inl (d 0, 8, .inl (ζ_8.1.2.2.1 51))), (b 13, .inr (8, [.int (ζ_8.1.1 60), .int (ζ_8.1.1 61), .int (ζ_8.1.1 62), .int (ζ_8.1.1 63), .ref (b 14), .ref (b 15), .int (ζ_8.1.1 66), .ref (b 17)])), (b 14, .inl (d 0, 100, .inl (ζ_8.1.2.2.1 64))), (b 15, .inl (d 3, 100, .inl (ζ_8.1.2.2.1 65))), (b 16, .inr (17, [.ref (b 19), .int (ζ_8.1.1 81), .int (ζ_8.1.1 82)])), (b 19, .inl (d 4, 17, .inr (.inr (.inr (.inr (ζ_8.1.2.2.2.2 19))))))] ++ ζ_8.2) K (ζ_8.1.1 70, ζ_8.1.1 72, ζ_8.1.2.2.2.2 18) r_98 h_97 _) (cwV 0 hts (lw_V q1392 q938 q939 q118 q940) rfl rfl rfl (by decide +kernel) ⟨(Nat.le_of_ble_eq_true rfl), (Nat.le_of_ble_eq_true rfl)⟩) ⟨Pw.blind, (va_recv hK.1 hP (ci := 18) (q0 := 16) rfl rfl), fun U hU hW => Pw.at hK hPc hDc hZ hS hA hU hW⟩ rfl rfl hl.1 rfl (lv_room (Nat.le_of_ble_eq_true rfl)) dX0_store_79 ⟨(Nat.le_of_ble_eq_true rfl), (Nat.le_of_ble_eq_true rfl)⟩) hPc hDc hS hA ?_
          clear hP hD hS hPc hDc
          intro H locs hP hD hS
          replace hP := ofT_P (perm := [2, 3, 4, 5, 6, 7, 8, 9, 10, 11, 12, 13, 14, 15, 16, 17, 0, 1, 18, 19]) (w' := XW d z b ζ_8.1) hP rfl
          replace hD := ofT_D (perm := [2, 3, 4, 5, 6, 7, 8, 9, 10, 11, 12, 13, 14, 15, 16, 17, 0, 1, 18, 19]) (w' := XW d z b ζ_8.1) hD rfl rfl
          clear h_97
          refine lv_bipush (v := 16) hx hb dX0_store_82 (by decide) ?_
          refine lv_icmp_ne (tgt := 90) hx hb dX0_store_84 (by decide) (fun c_99 => ?_) (fun c_99 => ?_)
          · replace hf := itU_f hf c_99
            clear c_99
            refine lv_aload_n hx hb dX0_store_90 rfl (lv_at hl 2 rfl) ?_
            obtain ⟨y_101, h_100, hf⟩ := b1u_some hf
            refine runW_vS (va_runV (As := []) (rest := []) S (tX0_remember l D d z b K ζ_8 y_101 h_100 _) (cwV 0 hts (lw_V q899 q901 qs20 q94 q902) rfl rfl rfl (by decide +kernel) ⟨(Nat.le_of_ble_eq_true rfl), (Nat.le_of_ble_eq_true rfl)⟩) ⟨Pw.blind, (va_recv hK.1 hP (ci := 1) (q0 := 0) rfl rfl), fun U hU hW => Pw.at hK hP hD hZ hS hA hU hW⟩ rfl rfl hl.1 rfl (lv_room (Nat.le_of_ble_eq_true rfl)) dX0_store_91 ⟨(Nat.le_of_ble_eq_true rfl), (Nat.le_of_ble_eq_true rfl)⟩) hP hD hS hA ?_
            clear hP hD hS
            intro u_103 _ H locs hP hD hS
            replace hf := hf u_103
            generalize y_101 u_103 = ζ_102 at hf hP hD ⊢
            clear h_100
            refine g_newT (w := XW d z b ζ_102.1) (tl := ζ_102.2) hx hb hts S.2.2.2.1 hK hP hD hS hA (ci := 16) in_X17 tyX17 tyX17_ok q1394 q1508 q129 rfl (fs := [.int (0 : Int32), .int (0 : Int32), .int (0 : Int32)]) (fun j hj => by rcases (show j = 0 ∨ j = 1 ∨ j = 2 by omega) with rfl | rfl | rfl <;> rfl) (Nat.le_of_ble_eq_true rfl) (Nat.le_of_ble_eq_true rfl) (w1 := fun q => (XW d z b ζ_102.1 ++ [(q, .inr (16, [.int (0 : Int32), .int (0 : Int32), .int (0 : Int32)]))])) (fun _ => rfl) dX0_store_94 ?_
            clear hP hD hS
            intro q_104 H hP hD hS
            replace hf := askU hf q_104
            replace hf := hf (fun _ => 0)
            refine lv_dup hx hb dX0_store_97 rfl ?_
            refine lv_aload_n hx hb dX0_store_98 rfl (lv_at hl 2 rfl) ?_
            refine g_get hx hb hts S.2.2.2.1 hK hP in_X0 0 rfl rfl 8 (by decide) q293 (fun _ h9 => h9) (v := .ref (b 13)) rfl dX0_store_99 ?_
            refine g_getN hx hb hts S.2.2.2.1 hK hP in_X8 13 rfl rfl 0 (by decide) q810 (fun _ h9 => h9) (v := .int (ζ_102.1.1 60)) rfl dX0_store_102 ?_
            refine lv_aload_n hx hb dX0_store_105 rfl (lv_at hl 2 rfl) ?_
            refine g_get hx hb hts S.2.2.2.1 hK hP in_X0 0 rfl rfl 8 (by decide) q293 (fun _ h9 => h9) (v := .ref (b 13)) rfl dX0_store_106 ?_
            refine g_getN hx hb hts S.2.2.2.1 hK hP in_X8 13 rfl rfl 1 (by decide) q812 (fun _ h9 => h9) (v := .int (ζ_102.1.1 61)) rfl dX0_store_109 ?_
            refine lv_aload_n hx hb dX0_store_112 rfl (lv_at hl 2 rfl) ?_
            obtain ⟨ζ_106, h_105, hf⟩ := b1_some hf
            obtain ⟨ζ_107, e_ζ_107⟩ : ∃ x, x = (xmrg ζ_102.1 ζ_106, ζ_102.2) := ⟨_, rfl⟩
            refine run_rS (w := (XW d z b ζ_102.1 ++ [(q_104, .inr (16, [.int (0 : Int32), .int (0 : Int32), .int (0 : Int32)]))])) (tl := ζ_102.2) (wr := [(b 17, .inr (18, [.int (ζ_102.1.1 70), .ref (b 18), .int (ζ_102.1.1 72)])), (b 18, .inl (d 4, 16, .inr (.inr (.inr (.inr (ζ_102.1.2.2.2.2 18)))))), (b 16, .inr (17, [.ref (b 19), .int (ζ_102.1.1 81), .int (ζ_102.1.1 82)])), (b 19, .inl (d 4, 17, .inr (.inr (.inr (.inr (ζ_102.1.2.2.2.2 19)))))), (q_104, .inr (16, [.int (0 : Int32), .int (0 : Int32), .int (0 : Int32)]))]) (w' := fun _ => (XW d z b ζ_107.1 ++ [(q_104, .inr (16, [.int (0 : Int32), .int (0 : Int32), .int (0 : Int32)]))])) (va_runV (As := []) (rest := [.int (ζ_102.1.1 61), .int (ζ_102.1.1 60), .ref q_104, .ref q_104]) S (tX0_here l D d z b (ζ_102.1.2.2.2.2 6 0) K ζ_102.1 ζ_106 h_105 _) (cwV 0 hts (lw_V q1093 q1095 qs30 q94 q1096) rfl rfl rfl (by decide +kernel) ⟨(Nat.le_of_ble_eq_true rfl), (Nat.le_of_ble_eq_true rfl)⟩) ⟨Pw.blind, (va_recv hK.1 hP (ci := 1) (q0 := 0) rfl rfl), fun U hU hW => Pw.cut (w := (XW d z b ζ_102.1 ++ [(q_104, .inr (16, [.int (0 : Int32), .int (0 : Int32), .int (0 : Int32)]))])) (tl := ζ_102.2) hK hP hD hZ hS hA [0, 1, 2, 3, 4, 5, 6, 7, 8, 9, 10, 11, 12, 13, 14, 15] rfl rfl hU hW⟩ rfl rfl hl.1 rfl (lv_room (Nat.le_of_ble_eq_true rfl)) dX0_store_113 ⟨(Nat.le_of_ble_eq_true rfl), (Nat.le_of_ble_eq_true rfl)⟩) hP hD hS hA [0, 1, 2, 3, 4, 5, 6, 7, 8, 9, 10, 11, 12, 13, 14, 15] [16, 17, 18, 19, 20] [5, 6, 7, 8, 9, 10, 11, 12, 13, 14, 15, 16, 17, 18, 19, 20, 0, 1, 2, 3, 4] rfl rfl rfl rfl (by decide) rfl (fun _ => by subst e_ζ_107; rfl) ?_
            clear hP hD hS
            intro _ _ H locs hP hD hS
            rw [show ζ_102.2 = ζ_107.2 from by subst e_ζ_107; rfl] at hP hD
            clear h_105
            replace hf := nm_some hf ζ_107 e_ζ_107
            clear e_ζ_107
            obtain ⟨r_109, ζ_110, h_108, hf⟩ := b2_some hf
            obtain ⟨ζ_111, e_ζ_111⟩ : ∃ x, x = (xmrg ζ_107.1 ζ_110, ζ_107.2) := ⟨_, rfl⟩
            refine run_i (w := (XW d z b ζ_107.1 ++ [(q_104, .inr (16, [.int (0 : Int32), .int (0 : Int32), .int (0 : Int32)]))])) (tl := ζ_107.2) (wr := [(b 17, .inr (18, [.int (ζ_107.1.1 70), .ref (b 18), .int (ζ_107.1.1 72)])), (b 18, .inl (d 4, 16, .inr (.inr (.inr (.inr (ζ_107.1.2.2.2.2 18)))))), (b 16, .inr (17, [.ref (b 19), .int (ζ_107.1.1 81), .int (ζ_107.1.1 82)])), (b 19, .inl (d 4, 17, .inr (.inr (.inr (.inr (ζ_107.1.2.2.2.2 19)))))), (q_104, .inr (16, [.int (0 : Int32), .int (0 : Int32), .int (0 : Int32)]))]) (w' := (XW d z b ζ_111.1 ++ [(q_104, .inr (16, [.int (0 : Int32), .int (0 : Int32), .int (0 : Int32)]))])) (va_runV (As := []) (rest := [.int (ζ_102.1.1 61), .int (ζ_102.1.1 60), .ref q_104, .ref q_104]) S (tX3_swr l D d z b (ζ_107.1.2.2.2.2 6 0) K ζ_107.1 r_109 ζ_110 h_108 _) (cwV 0 hts (lw_V q1119 q1120 q1121 q98 q1122) rfl rfl rfl (by decide +kernel) ⟨(Nat.le_of_ble_eq_true rfl), (Nat.le_of_ble_eq_true rfl)⟩) ⟨Pw.blind, (va_recv hK.1 hP (ci := 4) (q0 := 4) rfl rfl), fun U hU hW => Pw.cut (w := (XW d z b ζ_107.1 ++ [(q_104, .inr (16, [.int (0 : Int32), .int (0 : Int32), .int (0 : Int32)]))])) (tl := ζ_107.2) hK hP hD hZ hS hA [0, 1, 2, 3, 4, 5, 6, 7, 8, 9, 10, 11, 12, 13, 14, 15] rfl rfl hU hW⟩ rfl rfl hl.1 rfl (lv_room (Nat.le_of_ble_eq_true rfl)) dX0_store_116 ⟨(Nat.le_of_ble_eq_true rfl), (Nat.le_of_ble_eq_true rfl)⟩) hP hD hS hA [0, 1, 2, 3, 4, 5, 6, 7, 8, 9, 10, 11, 12, 13, 14, 15] [16, 17, 18, 19, 20] [5, 6, 7, 8, 9, 10, 11, 12, 13, 14, 15, 16, 17, 18, 19, 20, 0, 1, 2, 3, 4] rfl rfl rfl rfl (by decide) rfl (by subst e_ζ_111; rfl) ?_
            clear hP hD hS
            intro H locs hP hD hS
            rw [show ζ_107.2 = ζ_111.2 from by subst e_ζ_111; rfl] at hP hD
            clear h_108
            replace hf := nm_some hf ζ_111 e_ζ_111
            clear e_ζ_111
            obtain ⟨ζ_113, h_112, hf⟩ := b1_some hf
            refine run_v (w := (XW d z b ζ_111.1 ++ [(q_104, .inr (16, [.int (0 : Int32), .int (0 : Int32), .int (0 : Int32)]))])) (tl := ζ_111.2) (wr := [(b 0, .inr (1, [.ref (b 1), .int (ζ_111.1.1 1), .int (ζ_111.1.1 2), .ref (b 2), .ref (b 3), .ref (b 4), va_rf (ζ_111.1.2.2.2.2 6 0), .ref (b 7), .ref (b 13), .ref (b 16), .int (ζ_111.1.1 10)])), (b 1, .inl (d 2, 500, .inl (ζ_111.1.2.2.1 1))), (b 2, .inl (d 5, 2, .inr (.inr (.inr (.inr (fun j => some (z.2.2 j))))))), (b 3, .inl (d 6, 5, .inr (.inr (.inr (.inr (fun j => some (z.2.2 (2 + j)))))))), (b 4, .inr (4, [.int (ζ_111.1.1 20), .long (ζ_111.1.2.1 21), .long (ζ_111.1.2.1 22), .long (ζ_111.1.2.1 23), .ref (b 5), .ref (b 6), .ref (b 0)])), (b 5, .inr (2, [.long (ζ_111.1.2.1 30), .long (ζ_111.1.2.1 31)])), (b 6, .inr (2, [.long (ζ_111.1.2.1 32), .long (ζ_111.1.2.1 33)])), (b 7, .inr (6, [.int (ζ_111.1.1 40), .int (ζ_111.1.1 41), .int (ζ_111.1.1 42), .int (ζ_111.1.1 43), .int (ζ_111.1.1 44), .int (ζ_111.1.1 45), .ref (b 8), .ref (b 9), .ref (b 10), .int (ζ_111.1.1 49), .ref (b 11), .ref (b 12), .int (ζ_111.1.1 52)])), (b 8, .inl (d 0, 16, .inl (ζ_111.1.2.2.1 46))), (b 9, .inl (d 1, 16, .inr (.inl (ζ_111.1.2.2.2.1 47)))), (b 10, .inl (d 1, 16, .inr (.inl (ζ_111.1.2.2.2.1 48)))), (b 11, .inl (d 0, 8, .inl (ζ_111.1.2.2.1 50))), (b 12, .inl (d 0, 8, .inl (ζ_111.1.2.2.1 51))), (b 13, .inr (8, [.int (ζ_111.1.1 60), .int (ζ_111.1.1 61), .int (ζ_111.1.1 62), .int (ζ_111.1.1 63), .ref (b 14), .ref (b 15), .int (ζ_111.1.1 66), .ref (b 17)])), (b 14, .inl (d 0, 100, .inl (ζ_111.1.2.2.1 64))), (b 15, .inl (d 3, 100, .inl (ζ_111.1.2.2.1 65))), (b 17, .inr (18, [.int (ζ_111.1.1 70), .ref (b 18), .int (ζ_111.1.1 72)])), (b 18, .inl (d 4, 16, .inr (.inr (.inr (.inr (ζ_111.1.2.2.2.2 18)))))), (b 16, .inr (17, [.ref (b 19), .int (ζ_111.1.1 81), .int (ζ_111.1.1 82)])), (b 19, .inl (d 4, 17, .inr (.inr (.inr (.inr (ζ_111.1.2.2.2.2 19))))))]) (w' := (XW d z b ζ_111.1 ++ [(q_104, .inr (16, [.int ζ_113.1, .int ζ_113.2.1, .int ζ_113.2.2]))])) (va_runI (As := [.int (ζ_102.1.1 60), .int (ζ_102.1.1 61), .int r_109]) (rest := [.ref q_104]) S (tX17_init l D d z q_104 K (ζ_102.1.1 60) (ζ_102.1.1 61) r_109 ((0 : Int32), (0 : Int32), (0 : Int32)) ζ_113 h_112 _) (cwI 3 hts (lw_meth q1511) rfl rfl rfl (hts _ q129) (hts _ q1509) (hts _ q1510) rfl (by decide +kernel) ⟨(Nat.le_of_ble_eq_true rfl), (Nat.le_of_ble_eq_true rfl)⟩) ⟨Pw.blind, fun U hU hW => Pw.cut (w := (XW d z b ζ_111.1 ++ [(q_104, .inr (16, [.int (0 : Int32), .int (0 : Int32), .int (0 : Int32)]))])) (tl := ζ_111.2) hK hP hD hZ hS hA [20] rfl rfl hU hW⟩ rfl rfl hl.1 rfl (lv_room (Nat.le_of_ble_eq_true rfl)) dX0_store_119 ⟨(Nat.le_of_ble_eq_true rfl), (Nat.le_of_ble_eq_true rfl)⟩) hP hD hS hA [20] [0, 1, 2, 3, 4, 5, 6, 7, 8, 9, 10, 11, 12, 13, 14, 15, 16, 17, 18, 19] [0, 1, 2, 3, 4, 5, 6, 7, 8, 9, 10, 11, 12, 13, 14, 15, 16, 17, 18, 19, 20] rfl rfl rfl rfl (by decide) rfl rfl ?_
            clear hP hD hS
            intro H locs hP hD hS
            clear h_112
            refine lv_astore_n (lv' := [(3, .ref q_104), (2, .int (0 : Int32)), (1, .int r_7), (0, .ref (b 0))]) hx hb dX0_store_122 rfl hl (by decide) rfl (fun ls hl => ?_)
            refine lv_iload_n hx hb dX0_store_123 rfl (lv_at hl 1 rfl) ?_
            refine lv_if_eq (tgt := 143) hx hb dX0_store_124 (by decide) (fun c_114 => ?_) (fun c_114 => ?_)
            · replace hf := it_t hf c_114
              clear c_114
              refine lv_aload_n hx hb dX0_store_143 rfl (lv_at hl 3 rfl) ?_
              refine g_get hx hb hts S.2.2.2.1 hK hP in_X0 0 rfl rfl 8 (by decide) q293 (fun _ h9 => h9) (v := .ref (b 13)) rfl dX0_store_144 ?_
              refine g_getN hx hb hts S.2.2.2.1 hK hP in_X8 13 rfl rfl 7 (by decide) q823 (fun _ h9 => h9) (v := .ref (b 17)) rfl dX0_store_147 ?_
              refine lv_iload_n hx hb dX0_store_150 rfl (lv_at hl 2 rfl) ?_
              refine lv_aload_n hx hb dX0_store_151 rfl (lv_at hl 0 rfl) ?_
              obtain ⟨hes_115, hf⟩ := gaP_some hf
              obtain ⟨ζ_117, h_116, hf⟩ := b1_some hf
              obtain ⟨ζ_118, e_ζ_118⟩ : ∃ x, x = (xP (xI (xI ζ_111.1 70 ζ_117.1) 72 ζ_117.2.1) 18 ζ_117.2.2, ζ_111.2) := ⟨_, rfl⟩
              have hPc := toT_P (isC := [16, 17]) (isR := [0, 1, 2, 3, 4, 5, 6, 7, 8, 9, 10, 11, 12, 13, 14, 15, 18, 19, 20]) (wc := ALP d (b 17) (b 18) (ζ_111.1.1 70, ζ_111.1.1 72, ζ_111.1.2.2.2.2 18)) (wr := [(b 0, .inr (1, [.ref (b 1), .int (ζ_111.1.1 1), .int (ζ_111.1.1 2), .ref (b 2), .ref (b 3), .ref (b 4), va_rf (ζ_111.1.2.2.2.2 6 0), .ref (b 7), .ref (b 13), .ref (b 16), .int (ζ_111.1.1 10)])), (b 1, .inl (d 2, 500, .inl (ζ_111.1.2.2.1 1))), (b 2, .inl (d 5, 2, .inr (.inr (.inr (.inr (fun j => some (z.2.2 j))))))), (b 3, .inl (d 6, 5, .inr (.inr (.inr (.inr (fun j => some (z.2.2 (2 + j)))))))), (b 4, .inr (4, [.int (ζ_111.1.1 20), .long (ζ_111.1.2.1 21), .long (ζ_111.1.2.1 22), .long (ζ_111.1.2.1 23), .ref (b 5), .ref (b 6), .ref (b 0)])), (b 5, .inr (2, [.long (ζ_111.1.2.1 30), .long (ζ_111.1.2.1 31)])), (b 6, .inr (2, [.long (ζ_111.1.2.1 32), .long (ζ_111.1.2.1 33)])), (b 7, .inr (6, [.int (ζ_111.1.1 40), .int (ζ_111.1.1 41), .int (ζ_111.1.1 42), .int (ζ_111.1.1 43), .int (ζ_111.1.1 44), .int (ζ_111.1.1 45), .ref (b 8), .ref (b 9), .ref (b 10), .int (ζ_111.1.1 49), .ref (b 11), .ref (b 12), .int (ζ_111.1.1 52)])), (b 8, .inl (d 0, 16, .inl (ζ_111.1.2.2.1 46))), (b 9, .inl (d 1, 16, .inr (.inl (ζ_111.1.2.2.2.1 47)))), (b 10, .inl (d 1, 16, .inr (.inl (ζ_111.1.2.2.2.1 48)))), (b 11, .inl (d 0, 8, .inl (ζ_111.1.2.2.1 50))), (b 12, .inl (d 0, 8, .inl (ζ_111.1.2.2.1 51))), (b 13, .inr (8, [.int (ζ_111.1.1 60), .int (ζ_111.1.1 61), .int (ζ_111.1.1 62), .int (ζ_111.1.1 63), .ref (b 14), .ref (b 15), .int (ζ_111.1.1 66), .ref (b 17)])), (b 14, .inl (d 0, 100, .inl (ζ_111.1.2.2.1 64))), (b 15, .inl (d 3, 100, .inl (ζ_111.1.2.2.1 65))), (b 16, .inr (17, [.ref (b 19), .int (ζ_111.1.1 81), .int (ζ_111.1.1 82)])), (b 19, .inl (d 4, 17, .inr (.inr (.inr (.inr (ζ_111.1.2.2.2.2 19)))))), (q_104, .inr (16, [.int ζ_113.1, .int ζ_113.2.1, .int ζ_113.2.2]))]) (w := (XW d z b ζ_111.1 ++ [(q_104, .inr (16, [.int ζ_113.1, .int ζ_113.2.1, .int ζ_113.2.2]))])) (tl := ζ_111.2) hP rfl rfl
              have hDc := toT_D (isC := [16, 17]) (isR := [0, 1, 2, 3, 4, 5, 6, 7, 8, 9, 10, 11, 12, 13, 14, 15, 18, 19, 20]) (wc := ALP d (b 17) (b 18) (ζ_111.1.1 70, ζ_111.1.1 72, ζ_111.1.2.2.2.2 18)) (wr := [(b 0, .inr (1, [.ref (b 1), .int (ζ_111.1.1 1), .int (ζ_111.1.1 2), .ref (b 2), .ref (b 3), .ref (b 4), va_rf (ζ_111.1.2.2.2.2 6 0), .ref (b 7), .ref (b 13), .ref (b 16), .int (ζ_111.1.1 10)])), (b 1, .inl (d 2, 500, .inl (ζ_111.1.2.2.1 1))), (b 2, .inl (d 5, 2, .inr (.inr (.inr (.inr (fun j => some (z.2.2 j))))))), (b 3, .inl (d 6, 5, .inr (.inr (.inr (.inr (fun j => some (z.2.2 (2 + j)))))))), (b 4, .inr (4, [.int (ζ_111.1.1 20), .long (ζ_111.1.2.1 21), .long (ζ_111.1.2.1 22), .long (ζ_111.1.2.1 23), .ref (b 5), .ref (b 6), .ref (b 0)])), (b 5, .inr (2, [.long (ζ_111.1.2.1 30), .long (ζ_111.1.2.1 31)])), (b 6, .inr (2, [.long (ζ_111.1.2.1 32), .long (ζ_111.1.2.1 33)])), (b 7, .inr (6, [.int (ζ_111.1.1 40), .int (ζ_111.1.1 41), .int (ζ_111.1.1 42), .int (ζ_111.1.1 43), .int (ζ_111.1.1 44), .int (ζ_111.1.1 45), .ref (b 8), .ref (b 9), .ref (b 10), .int (ζ_111.1.1 49), .ref (b 11), .ref (b 12), .int (ζ_111.1.1 52)])), (b 8, .inl (d 0, 16, .inl (ζ_111.1.2.2.1 46))), (b 9, .inl (d 1, 16, .inr (.inl (ζ_111.1.2.2.2.1 47)))), (b 10, .inl (d 1, 16, .inr (.inl (ζ_111.1.2.2.2.1 48)))), (b 11, .inl (d 0, 8, .inl (ζ_111.1.2.2.1 50))), (b 12, .inl (d 0, 8, .inl (ζ_111.1.2.2.1 51))), (b 13, .inr (8, [.int (ζ_111.1.1 60), .int (ζ_111.1.1 61), .int (ζ_111.1.1 62), .int (ζ_111.1.1 63), .ref (b 14), .ref (b 15), .int (ζ_111.1.1 66), .ref (b 17)])), (b 14, .inl (d 0, 100, .inl (ζ_111.1.2.2.1 64))), (b 15, .inl (d 3, 100, .inl (ζ_111.1.2.2.1 65))), (b 16, .inr (17, [.ref (b 19), .int (ζ_111.1.1 81), .int (ζ_111.1.1 82)])), (b 19, .inl (d 4, 17, .inr (.inr (.inr (.inr (ζ_111.1.2.2.2.2 19)))))), (q_104, .inr (16, [.int ζ_113.1, .int ζ_113.2.1, .int ζ_113.2.2]))]) (w := (XW d z b ζ_111.1 ++ [(q_104, .inr (16, [.int ζ_113.1, .int ζ_113.2.1, .int ζ_113.2.2]))])) (tl := ζ_111.2) hD rfl rfl rfl
              refine runW_v (va_runV (As := [.int r_7, .ref q_104]) (rest := []) S (tJ14_add_3 l D d z (b 17) (b 18) ([(b 0, .inr (1, [.ref (b 1), .int (ζ_111.1.1 1), .int (ζ_111.1.1 2), .ref (b 2), .ref (b 3), .ref (b 4), va_rf (ζ_111.1.2.2.2.2 6 0), .ref (b 7), .ref (b 13), .ref (b 16), .int (ζ_111.1.1 10)])), (b 1, .inl (d 2, 500, .inl (ζ_111.1.2.2.1 1))), (b 2, .inl (d 5, 2, .inr (.inr (.inr (.inr (fun j => some (z.2.2 j))))))), (b 3, .inl (d 6, 5, .inr (.inr (.inr (.inr (fun j => some (z.2.2 (2 + j)))))))), (b 4, .inr (4, [.int (ζ_111.1.1 20), .long (ζ_111.1.2.1 21), .long (ζ_111.1.2.1 22), .long (ζ_111.1.2.1 23), .ref (b 5), .ref (b 6), .ref (b 0)])), (b 5, .inr (2, [.long (ζ_111.1.2.1 30), .long (ζ_111.1.2.1 31)])), (b 6, .inr (2, [.long (ζ_111.1.2.1 32), .long (ζ_111.1.2.1 33)])), (b 7, .inr (6, [.int (ζ_111.1.1 40), .int (ζ_111.1.1 41), .int (ζ_111.1.1 42), .int (ζ_111.1.1 43), .int (ζ_111.1.1 44), .int (ζ_111.1.1 45), .ref (b 8), .ref (b 9), .ref (b 10), .int (ζ_111.1.1 49), .ref (b 11), .ref (b 12), .int (ζ_111.1.1 52)])), (b 8, .inl (d 0, 16, .inl (ζ_111.1.2.2.1 46))), (b 9, .inl (d 1, 16, .inr (.inl (ζ_111.1.2.2.2.1 47)))), (b 10, .inl (d 1, 16, .inr (.inl (ζ_111.1.2.2.2.1 48)))), (b 11, .inl (d 0, 8, .inl (ζ_111.1.2.2.1 50))), (b 12, .inl (d 0, 8, .inl (ζ_111.1.2.2.1 51))), (b 13, .inr (8, [.int (ζ_111.1.1 60), .int (ζ_111.1.1 61), .int (ζ_111.1.1 62), .int (ζ_111.1.1 63), .ref (b 14), .ref (b 15), .int (ζ_111.1.1 66), .ref (b 17)])), (b 14, .inl (d 0, 100, .inl (ζ_111.1.2.2.1 64))), (b 15, .inl (d 3, 100, .inl (ζ_111.1.2.2.1 65))), (b 16, .inr (17, [.ref (b 19), .int (ζ_111.1.1 81), .int (ζ_111.1.1 82)])), (b 19, .inl (d 4, 17, .inr (.inr (.inr (.inr (ζ_111.1.2.2.2.2 19)))))), (q_104, .inr (16, [.int ζ_113.1, .int ζ_113.2.1, .int ζ_113.2.2]))] ++ ζ_111.2) K r_7 q_104 (ζ_111.1.1 70, ζ_111.1.1 72, ζ_111.1.2.2.2.2 18) ζ_117 h_116 ⟨_, List.mem_append_left _ (List.mem_of_getElem? (i := 18) rfl)⟩ (fun j q hq => (hes_115 j q hq).imp fun _ h => List.mem_append_right _ h) _) (cwV 2 hts (lw_V q1530 q1531 q1532 q118 q1533) rfl rfl rfl (by decide +kernel) ⟨(Nat.le_of_ble_eq_true rfl), (Nat.le_of_ble_eq_true rfl)⟩) ⟨Pw.blind, (va_recv hK.1 hP (ci := 18) (q0 := 16) rfl rfl), fun U hU hW => Pw.at hK hPc hDc hZ hS hA hU hW⟩ rfl rfl hl.1 rfl (lv_room (Nat.le_of_ble_eq_true rfl)) dX0_store_152 ⟨(Nat.le_of_ble_eq_true rfl), (Nat.le_of_ble_eq_true rfl)⟩) hPc hDc hS hA ?_
              clear hP hD hS hPc hDc
              intro H locs hP hD hS
              replace hP := ofT_P (perm := [2, 3, 4, 5, 6, 7, 8, 9, 10, 11, 12, 13, 14, 15, 16, 17, 0, 1, 18, 19, 20]) (w' := (XW d z b ζ_118.1 ++ [(q_104, .inr (16, [.int ζ_113.1, .int ζ_113.2.1, .int ζ_113.2.2]))])) hP (by subst e_ζ_118; rfl)
              replace hD := ofT_D (perm := [2, 3, 4, 5, 6, 7, 8, 9, 10, 11, 12, 13, 14, 15, 16, 17, 0, 1, 18, 19, 20]) (w' := (XW d z b ζ_118.1 ++ [(q_104, .inr (16, [.int ζ_113.1, .int ζ_113.2.1, .int ζ_113.2.2]))])) hD rfl (by subst e_ζ_118; rfl)
              rw [show ζ_111.2 = ζ_118.2 from by subst e_ζ_118; rfl] at hP hD
              clear h_116
              replace hf := nm_some hf ζ_118 e_ζ_118
              clear e_ζ_118
              refine lv_iload_n hx hb dX0_store_155 rfl (lv_at hl 2 rfl) ?_
              refine W.widen (k := 6) (n := 230) (Nat.le_of_ble_eq_true rfl) (Nat.le_of_ble_eq_true rfl) ?_
              obtain ⟨ζ_119, e_ζ_119⟩ : ∃ x, x = (ζ_118.1, [(q_104, .inr (16, [.int ζ_113.1, .int ζ_113.2.1, .int ζ_113.2.2]))] ++ ζ_118.2) := ⟨_, rfl⟩
              replace hf := nm_some hf ζ_119 e_ζ_119
              replace hP := kp_P (w := XW d z b ζ_118.1) (ks := [(q_104, .inr (16, [.int ζ_113.1, .int ζ_113.2.1, .int ζ_113.2.2]))]) (w' := XW d z b ζ_119.1) (t2 := ζ_119.2) hP (by subst e_ζ_119; rfl) (by subst e_ζ_119; rfl)
              replace hD := kp_D (w := XW d z b ζ_118.1) (ks := [(q_104, .inr (16, [.int ζ_113.1, .int ζ_113.2.1, .int ζ_113.2.2]))]) (w' := XW d z b ζ_119.1) (t2 := ζ_119.2) hD (by subst e_ζ_119; rfl) (by subst e_ζ_119; rfl)
              clear e_ζ_119
              exact hret _ _ _ _ _ _ _ hf dX0_store_156 hP hD hS
            · replace hf := it_f hf c_114
              clear c_114
              refine lv_aload_n hx hb dX0_store_127 rfl (lv_at hl 3 rfl) ?_
              refine g_get hx hb hts S.2.2.2.1 hK hP in_X0 0 rfl rfl 8 (by decide) q293 (fun _ h9 => h9) (v := .ref (b 13)) rfl dX0_store_128 ?_
              refine g_getN hx hb hts S.2.2.2.1 hK hP in_X8 13 rfl rfl 7 (by decide) q823 (fun _ h9 => h9) (v := .ref (b 17)) rfl dX0_store_131 ?_
              refine lv_iload_n hx hb dX0_store_134 rfl (lv_at hl 2 rfl) ?_
              refine lv_aload_n hx hb dX0_store_135 rfl (lv_at hl 0 rfl) ?_
              obtain ⟨r_121, ζ_122, h_120, hf⟩ := b2_some hf
              obtain ⟨ζ_123, e_ζ_123⟩ : ∃ x, x = (xP (xI (xI ζ_111.1 70 ζ_122.1) 72 ζ_122.2.1) 18 ζ_122.2.2, ζ_111.2) := ⟨_, rfl⟩
              have hPc := toT_P (isC := [16, 17]) (isR := [0, 1, 2, 3, 4, 5, 6, 7, 8, 9, 10, 11, 12, 13, 14, 15, 18, 19, 20]) (wc := ALP d (b 17) (b 18) (ζ_111.1.1 70, ζ_111.1.1 72, ζ_111.1.2.2.2.2 18)) (wr := [(b 0, .inr (1, [.ref (b 1), .int (ζ_111.1.1 1), .int (ζ_111.1.1 2), .ref (b 2), .ref (b 3), .ref (b 4), va_rf (ζ_111.1.2.2.2.2 6 0), .ref (b 7), .ref (b 13), .ref (b 16), .int (ζ_111.1.1 10)])), (b 1, .inl (d 2, 500, .inl (ζ_111.1.2.2.1 1))), (b 2, .inl (d 5, 2, .inr (.inr (.inr (.inr (fun j => some (z.2.2 j))))))), (b 3, .inl (d 6, 5, .inr (.inr (.inr (.inr (fun j => some (z.2.2 (2 + j)))))))), (b 4, .inr (4, [.int (ζ_111.1.1 20), .long (ζ_111.1.2.1 21), .long (ζ_111.1.2.1 22), .long (ζ_111.1.2.1 23), .ref (b 5), .ref (b 6), .ref (b 0)])), (b 5, .inr (2, [.long (ζ_111.1.2.1 30), .long (ζ_111.1.2.1 31)])), (b 6, .inr (2, [.long (ζ_111.1.2.1 32), .long (ζ_111.1.2.1 33)])), (b 7, .inr (6, [.int (ζ_111.1.1 40), .int (ζ_111.1.1 41), .int (ζ_111.1.1 42), .int (ζ_111.1.1 43), .int (ζ_111.1.1 44), .int (ζ_111.1.1 45), .ref (b 8), .ref (b 9), .ref (b 10), .int (ζ_111.1.1 49), .ref (b 11), .ref (b 12), .int (ζ_111.1.1 52)])), (b 8, .inl (d 0, 16, .inl (ζ_111.1.2.2.1 46))), (b 9, .inl (d 1, 16, .inr (.inl (ζ_111.1.2.2.2.1 47)))), (b 10, .inl (d 1, 16, .inr (.inl (ζ_111.1.2.2.2.1 48)))), (b 11, .inl (d 0, 8, .inl (ζ_111.1.2.2.1 50))), (b 12, .inl (d 0, 8, .inl (ζ_111.1.2.2.1 51))), (b 13, .inr (8, [.int (ζ_111.1.1 60), .int (ζ_111.1.1 61), .int (ζ_111.1.1 62), .int (ζ_111.1.1 63), .ref (b 14), .ref (b 15), .int (ζ_111.1.1 66), .ref (b 17)])), (b 14, .inl (d 0, 100, .inl (ζ_111.1.2.2.1 64))), (b 15, .inl (d 3, 100, .inl (ζ_111.1.2.2.1 65))), (b 16, .inr (17, [.ref (b 19), .int (ζ_111.1.1 81), .int (ζ_111.1.1 82)])), (b 19, .inl (d 4, 17, .inr (.inr (.inr (.inr (ζ_111.1.2.2.2.2 19)))))), (q_104, .inr (16, [.int ζ_113.1, .int ζ_113.2.1, .int ζ_113.2.2]))]) (w := (XW d z b ζ_111.1 ++ [(q_104, .inr (16, [.int ζ_113.1, .int ζ_113.2.1, .int ζ_113.2.2]))])) (tl := ζ_111.2) hP rfl rfl
              have hDc := toT_D (isC := [16, 17]) (isR := [0, 1, 2, 3, 4, 5, 6, 7, 8, 9, 10, 11, 12, 13, 14, 15, 18, 19, 20]) (wc := ALP d (b 17) (b 18) (ζ_111.1.1 70, ζ_111.1.1 72, ζ_111.1.2.2.2.2 18)) (wr := [(b 0, .inr (1, [.ref (b 1), .int (ζ_111.1.1 1), .int (ζ_111.1.1 2), .ref (b 2), .ref (b 3), .ref (b 4), va_rf (ζ_111.1.2.2.2.2 6 0), .ref (b 7), .ref (b 13), .ref (b 16), .int (ζ_111.1.1 10)])), (b 1, .inl (d 2, 500, .inl (ζ_111.1.2.2.1 1))), (b 2, .inl (d 5, 2, .inr (.inr (.inr (.inr (fun j => some (z.2.2 j))))))), (b 3, .inl (d 6, 5, .inr (.inr (.inr (.inr (fun j => some (z.2.2 (2 + j)))))))), (b 4, .inr (4, [.int (ζ_111.1.1 20), .long (ζ_111.1.2.1 21), .long (ζ_111.1.2.1 22), .long (ζ_111.1.2.1 23), .ref (b 5), .ref (b 6), .ref (b 0)])), (b 5, .inr (2, [.long (ζ_111.1.2.1 30), .long (ζ_111.1.2.1 31)])), (b 6, .inr (2, [.long (ζ_111.1.2.1 32), .long (ζ_111.1.2.1 33)])), (b 7, .inr (6, [.int (ζ_111.1.1 40), .int (ζ_111.1.1 41), .int (ζ_111.1.1 42), .int (ζ_111.1.1 43), .int (ζ_111.1.1 44), .int (ζ_111.1.1 45), .ref (b 8), .ref (b 9), .ref (b 10), .int (ζ_111.1.1 49), .ref (b 11), .ref (b 12), .int (ζ_111.1.1 52)])), (b 8, .inl (d 0, 16, .inl (ζ_111.1.2.2.1 46))), (b 9, .inl (d 1, 16, .inr (.inl (ζ_111.1.2.2.2.1 47)))), (b 10, .inl (d 1, 16, .inr (.inl (ζ_111.1.2.2.2.1 48)))), (b 11, .inl (d 0, 8, .inl (ζ_111.1.2.2.1 50))), (b 12, .inl (d 0, 8, .inl (ζ_111.1.2.2.1 51))), (b 13, .inr (8, [.int (ζ_111.1.1 60), .int (ζ_111.1.1 61), .int (ζ_111.1.1 62), .int (ζ_111.1.1 63), .ref (b 14), .ref (b 15), .int (ζ_111.1.1 66), .ref (b 17)])), (b 14, .inl (d 0, 100, .inl (ζ_111.1.2.2.1 64))), (b 15, .inl (d 3, 100, .inl (ζ_111.1.2.2.1 65))), (b 16, .inr (17, [.ref (b 19), .int (ζ_111.1.1 81), .int (ζ_111.1.1 82)])), (b 19, .inl (d 4, 17, .inr (.inr (.inr (.inr (ζ_111.1.2.2.2.2 19)))))), (q_104, .inr (16, [.int ζ_113.1, .int ζ_113.2.1, .int ζ_113.2.2]))]) (w := (XW d z b ζ_111.1 ++ [(q_104, .inr (16, [.int ζ_113.1, .int ζ_113.2.1, .int ζ_113.2.2]))])) (tl := ζ_111.2) hD rfl rfl rfl
              refine runW_rS (va_runV (As := [.int r_7, .ref q_104]) (rest := []) S (tJ14_set l D d z (b 17) (b 18) ([(b 0, .inr (1, [.ref (b 1), .int (ζ_111.1.1 1), .int (ζ_111.1.1 2), .ref (b 2), .ref (b 3), .ref (b 4), va_rf (ζ_111.1.2.2.2.2 6 0), .ref (b 7), .ref (b 13), .ref (b 16), .int (ζ_111.1.1 10)])), (b 1, .inl (d 2, 500, .inl (ζ_111.1.2.2.1 1))), (b 2, .inl (d 5, 2, .inr (.inr (.inr (.inr (fun j => some (z.2.2 j))))))), (b 3, .inl (d 6, 5, .inr (.inr (.inr (.inr (fun j => some (z.2.2 (2 + j)))))))), (b 4, .inr (4, [.int (ζ_111.1.1 20), .long (ζ_111.1.2.1 21), .long (ζ_111.1.2.1 22), .long (ζ_111.1.2.1 23), .ref (b 5), .ref (b 6), .ref (b 0)])), (b 5, .inr (2, [.long (ζ_111.1.2.1 30), .long (ζ_111.1.2.1 31)])), (b 6, .inr (2, [.long (ζ_111.1.2.1 32), .long (ζ_111.1.2.1 33)])), (b 7, .inr (6, [.int (ζ_111.1.1 40), .int (ζ_111.1.1 41), .int (ζ_111.1.1 42), .int (ζ_111.1.1 43), .int (ζ_111.1.1 44), .int (ζ_111.1.1 45), .ref (b 8), .ref (b 9), .ref (b 10), .int (ζ_111.1.1 49), .ref (b 11), .ref (b 12), .int (ζ_111.1.1 52)])), (b 8, .inl (d 0, 16, .inl (ζ_111.1.2.2.1 46))), (b 9, .inl (d 1, 16, .inr (.inl (ζ_111.1.2.2.2.1 47)))), (b 10, .inl (d 1, 16, .inr (.inl (ζ_111.1.2.2.2.1 48)))), (b 11, .inl (d 0, 8, .inl (ζ_111.1.2.2.1 50))), (b 12, .inl (d 0, 8, .inl (ζ_111.1.2.2.1 51))), (b 13, .inr (8, [.int (ζ_111.1.1 60), .int (ζ_111.1.1 61), .int (ζ_111.1.1 62), .int (ζ_111.1.1 63), .ref (b 14), .ref (b 15), .int (ζ_111.1.1 66), .ref (b 17)])), (b 14, .inl (d 0, 100, .inl (ζ_111.1.2.2.1 64))), (b 15, .inl (d 3, 100, .inl (ζ_111.1.2.2.1 65))), (b 16, .inr (17, [.ref (b 19), .int (ζ_111.1.1 81), .int (ζ_111.1.1 82)])), (b 19, .inl (d 4, 17, .inr (.inr (.inr (.inr (ζ_111.1.2.2.2.2 19)))))), (q_104, .inr (16, [.int ζ_113.1, .int ζ_113.2.1, .int ζ_113.2.2]))] ++ ζ_111.2) K r_7 q_104 (ζ_111.1.1 70, ζ_111.1.1 72, ζ_111.1.2.2.2.2 18) r_121 ζ_122 h_120 ⟨_, List.mem_append_left _ (List.mem_of_getElem? (i := 18) rfl)⟩ _) (cwV 2 hts (lw_V q1526 q1527 q1528 q118 q1529) rfl rfl rfl (by decide +kernel) ⟨(Nat.le_of_ble_eq_true rfl), (Nat.le_of_ble_eq_true rfl)⟩) ⟨Pw.blind, (va_recv hK.1 hP (ci := 18) (q0 := 16) rfl rfl), fun U hU hW => Pw.at hK hPc hDc hZ hS hA hU hW⟩ rfl rfl hl.1 rfl (lv_room (Nat.le_of_ble_eq_true rfl)) dX0_store_136 ⟨(Nat.le_of_ble_eq_true rfl), (Nat.le_of_ble_eq_true rfl)⟩) hPc hDc hS hA ?_
              clear hP hD hS hPc hDc
              intro _ _ H locs hP hD hS
              replace hP := ofT_P (perm := [2, 3, 4, 5, 6, 7, 8, 9, 10, 11, 12, 13, 14, 15, 16, 17, 0, 1, 18, 19, 20]) (w' := (XW d z b ζ_123.1 ++ [(q_104, .inr (16, [.int ζ_113.1, .int ζ_113.2.1, .int ζ_113.2.2]))])) hP (by subst e_ζ_123; rfl)
              replace hD := ofT_D (perm := [2, 3, 4, 5, 6, 7, 8, 9, 10, 11, 12, 13, 14, 15, 16, 17, 0, 1, 18, 19, 20]) (w' := (XW d z b ζ_123.1 ++ [(q_104, .inr (16, [.int ζ_113.1, .int ζ_113.2.1, .int ζ_113.2.2]))])) hD rfl (by subst e_ζ_123; rfl)
              rw [show ζ_111.2 = ζ_123.2 from by subst e_ζ_123; rfl] at hP hD
              clear h_120
              replace hf := nm_some hf ζ_123 e_ζ_123
              clear e_ζ_123
              refine lv_pop hx hb dX0_store_139 rfl ?_
              refine lv_goto (tgt := 155) hx hb dX0_store_140 (by decide) ?_
              refine lv_iload_n hx hb dX0_store_155 rfl (lv_at hl 2 rfl) ?_
              refine W.widen (k := 6) (n := 230) (Nat.le_of_ble_eq_true rfl) (Nat.le_of_ble_eq_true rfl) ?_
              obtain ⟨ζ_124, e_ζ_124⟩ : ∃ x, x = (ζ_123.1, [(q_104, .inr (16, [.int ζ_113.1, .int ζ_113.2.1, .int ζ_113.2.2]))] ++ ζ_123.2) := ⟨_, rfl⟩
              replace hf := nm_some hf ζ_124 e_ζ_124
              replace hP := kp_P (w := XW d z b ζ_123.1) (ks := [(q_104, .inr (16, [.int ζ_113.1, .int ζ_113.2.1, .int ζ_113.2.2]))]) (w' := XW d z b ζ_124.1) (t2 := ζ_124.2) hP (by subst e_ζ_124; rfl) (by subst e_ζ_124; rfl)
              replace hD := kp_D (w := XW d z b ζ_123.1) (ks := [(q_104, .inr (16, [.int ζ_113.1, .int ζ_113.2.1, .int ζ_113.2.2]))]) (w' := XW d z b ζ_124.1) (t2 := ζ_124.2) hD (by subst e_ζ_124; rfl) (by subst e_ζ_124; rfl)
              clear e_ζ_124
              exact hret _ _ _ _ _ _ _ hf dX0_store_156 hP hD hS
          · replace hf := itU_t hf c_99
            clear c_99
            replace hf := hf (fun _ => 0)
            refine lv_bipush (v := -2) hx hb dX0_store_87 (by decide) ?_
            refine W.widen (k := 6) (n := 230) (Nat.le_of_ble_eq_true rfl) (Nat.le_of_ble_eq_true rfl) ?_
            exact hret _ _ _ _ _ _ _ hf dX0_store_89 hP hD hS
      · replace hf := itU_t hf c_70
        clear c_70
        refine lv_iconst (v := 1) hx hb dX0_store_62 (by decide) ?_
        refine lv_goto (tgt := 67) hx hb dX0_store_63 (by decide) ?_
        refine lv_istore_n (lv' := [(2, .int (1 : Int32)), (1, .int r_7), (0, .ref (b 0))]) hx hb dX0_store_67 rfl hl (by decide) rfl (fun ls hl => ?_)
        refine lv_iload_n hx hb dX0_store_68 rfl (lv_at hl 0 rfl) ?_
        refine lv_if_ne (tgt := 90) hx hb dX0_store_69 (by decide) (fun c_125 => ?_) (fun c_125 => ?_)
        · replace hf := itU_f hf c_125
          clear c_125
          refine lv_aload_n hx hb dX0_store_90 rfl (lv_at hl 2 rfl) ?_
          obtain ⟨y_127, h_126, hf⟩ := b1u_some hf
          refine runW_vS (va_runV (As := []) (rest := []) S (tX0_remember l D d z b K ζ_8 y_127 h_126 _) (cwV 0 hts (lw_V q899 q901 qs20 q94 q902) rfl rfl rfl (by decide +kernel) ⟨(Nat.le_of_ble_eq_true rfl), (Nat.le_of_ble_eq_true rfl)⟩) ⟨Pw.blind, (va_recv hK.1 hP (ci := 1) (q0 := 0) rfl rfl), fun U hU hW => Pw.at hK hP hD hZ hS hA hU hW⟩ rfl rfl hl.1 rfl (lv_room (Nat.le_of_ble_eq_true rfl)) dX0_store_91 ⟨(Nat.le_of_ble_eq_true rfl), (Nat.le_of_ble_eq_true rfl)⟩) hP hD hS hA ?_
          clear hP hD hS
          intro u_129 _ H locs hP hD hS
          replace hf := hf u_129
          generalize y_127 u_129 = ζ_128 at hf hP hD ⊢
          clear h_126
          refine g_newT (w := XW d z b ζ_128.1) (tl := ζ_128.2) hx hb hts S.2.2.2.1 hK hP hD hS hA (ci := 16) in_X17 tyX17 tyX17_ok q1394 q1508 q129 rfl (fs := [.int (0 : Int32), .int (0 : Int32), .int (0 : Int32)]) (fun j hj => by rcases (show j = 0 ∨ j = 1 ∨ j = 2 by omega) with rfl | rfl | rfl <;> rfl) (Nat.le_of_ble_eq_true rfl) (Nat.le_of_ble_eq_true rfl) (w1 := fun q => (XW d z b ζ_128.1 ++ [(q, .inr (16, [.int (0 : Int32), .int (0 : Int32), .int (0 : Int32)]))])) (fun _ => rfl) dX0_store_94 ?_
          clear hP hD hS
          intro q_130 H hP hD hS
          replace hf := askU hf q_130
          replace hf := hf (fun _ => 0)
          refine lv_dup hx hb dX0_store_97 rfl ?_
          refine lv_aload_n hx hb dX0_store_98 rfl (lv_at hl 2 rfl) ?_
          refine g_get hx hb hts S.2.2.2.1 hK hP in_X0 0 rfl rfl 8 (by decide) q293 (fun _ h9 => h9) (v := .ref (b 13)) rfl dX0_store_99 ?_
          refine g_getN hx hb hts S.2.2.2.1 hK hP in_X8 13 rfl rfl 0 (by decide) q810 (fun _ h9 => h9) (v := .int (ζ_128.1.1 60)) rfl dX0_store_102 ?_
          refine lv_aload_n hx hb dX0_store_105 rfl (lv_at hl 2 rfl) ?_
          refine g_get hx hb hts S.2.2.2.1 hK hP in_X0 0 rfl rfl 8 (by decide) q293 (fun _ h9 => h9) (v := .ref (b 13)) rfl dX0_store_106 ?_
          refine g_getN hx hb hts S.2.2.2.1 hK hP in_X8 13 rfl rfl 1 (by decide) q812 (fun _ h9 => h9) (v := .int (ζ_128.1.1 61)) rfl dX0_store_109 ?_
          refine lv_aload_n hx hb dX0_store_112 rfl (lv_at hl 2 rfl) ?_
          obtain ⟨ζ_132, h_131, hf⟩ := b1_some hf
          obtain ⟨ζ_133, e_ζ_133⟩ : ∃ x, x = (xmrg ζ_128.1 ζ_132, ζ_128.2) := ⟨_, rfl⟩
          refine run_rS (w := (XW d z b ζ_128.1 ++ [(q_130, .inr (16, [.int (0 : Int32), .int (0 : Int32), .int (0 : Int32)]))])) (tl := ζ_128.2) (wr := [(b 17, .inr (18, [.int (ζ_128.1.1 70), .ref (b 18), .int (ζ_128.1.1 72)])), (b 18, .inl (d 4, 16, .inr (.inr (.inr (.inr (ζ_128.1.2.2.2.2 18)))))), (b 16, .inr (17, [.ref (b 19), .int (ζ_128.1.1 81), .int (ζ_128.1.1 82)])), (b 19, .inl (d 4, 17, .inr (.inr (.inr (.inr (ζ_128.1.2.2.2.2 19)))))), (q_130, .inr (16, [.int (0 : Int32), .int (0 : Int32), .int (0 : Int32)]))]) (w' := fun _ => (XW d z b ζ_133.1 ++ [(q_130, .inr (16, [.int (0 : Int32), .int (0 : Int32), .int (0 : Int32)]))])) (va_runV (As := []) (rest := [.int (ζ_128.1.1 61), .int (ζ_128.1.1 60), .ref q_130, .ref q_130]) S (tX0_here l D d z b (ζ_128.1.2.2.2.2 6 0) K ζ_128.1 ζ_132 h_131 _) (cwV 0 hts (lw_V q1093 q1095 qs30 q94 q1096) rfl rfl rfl (by decide +kernel) ⟨(Nat.le_of_ble_eq_true rfl), (Nat.le_of_ble_eq_true rfl)⟩) ⟨Pw.blind, (va_recv hK.1 hP (ci := 1) (q0 := 0) rfl rfl), fun U hU hW => Pw.cut (w := (XW d z b ζ_128.1 ++ [(q_130, .inr (16, [.int (0 : Int32), .int (0 : Int32), .int (0 : Int32)]))])) (tl := ζ_128.2) hK hP hD hZ hS hA [0, 1, 2, 3, 4, 5, 6, 7, 8, 9, 10, 11, 12, 13, 14, 15] rfl rfl hU hW⟩ rfl rfl hl.1 rfl (lv_room (Nat.le_of_ble_eq_true rfl)) dX0_store_113 ⟨(Nat.le_of_ble_eq_true rfl), (Nat.le_of_ble_eq_true rfl)⟩) hP hD hS hA [0, 1, 2, 3, 4, 5, 6, 7, 8, 9, 10, 11, 12, 13, 14, 15] [16, 17, 18, 19, 20] [5, 6, 7, 8, 9, 10, 11, 12, 13, 14, 15, 16, 17, 18, 19, 20, 0, 1, 2, 3, 4] rfl rfl rfl rfl (by decide) rfl (fun _ => by subst e_ζ_133; rfl) ?_
          clear hP hD hS
          intro _ _ H locs hP hD hS
          rw [show ζ_128.2 = ζ_133.2 from by subst e_ζ_133; rfl] at hP hD
          clear h_131
          replace hf := nm_some hf ζ_133 e_ζ_133
          clear e_ζ_133
          obtain ⟨r_135, ζ_136, h_134, hf⟩ := b2_some hf
          obtain ⟨ζ_137, e_ζ_137⟩ : ∃ x, x = (xmrg ζ_133.1 ζ_136, ζ_133.2) := ⟨_, rfl⟩
          refine run_i (w := (XW d z b ζ_133.1 ++ [(q_130, .inr (16, [.int (0 : Int32), .int (0 : Int32), .int (0 : Int32)]))])) (tl := ζ_133.2) (wr := [(b 17, .inr (18, [.int (ζ_133.1.1 70), .ref (b 18), .int (ζ_133.1.1 72)])), (b 18, .inl (d 4, 16, .inr (.inr (.inr (.inr (ζ_133.1.2.2.2.2 18)))))), (b 16, .inr (17, [.ref (b 19), .int (ζ_133.1.1 81), .int (ζ_133.1.1 82)])), (b 19, .inl (d 4, 17, .inr (.inr (.inr (.inr (ζ_133.1.2.2.2.2 19)))))), (q_130, .inr (16, [.int (0 : Int32), .int (0 : Int32), .int (0 : Int32)]))]) (w' := (XW d z b ζ_137.1 ++ [(q_130, .inr (16, [.int (0 : Int32), .int (0 : Int32), .int (0 : Int32)]))])) (va_runV (As := []) (rest := [.int (ζ_128.1.1 61), .int (ζ_128.1.1 60), .ref q_130, .ref q_130]) S (tX3_swr l D d z b (ζ_133.1.2.2.2.2 6 0) K ζ_133.1 r_135 ζ_136 h_134 _) (cwV 0 hts (lw_V q1119 q1120 q1121 q98 q1122) rfl rfl rfl (by decide +kernel) ⟨(Nat.le_of_ble_eq_true rfl), (Nat.le_of_ble_eq_true rfl)⟩) ⟨Pw.blind, (va_recv hK.1 hP (ci := 4) (q0 := 4) rfl rfl), fun U hU hW => Pw.cut (w := (XW d z b ζ_133.1 ++ [(q_130, .inr (16, [.int (0 : Int32), .int (0 : Int32), .int (0 : Int32)]))])) (tl := ζ_133.2) hK hP hD hZ hS hA [0, 1, 2, 3, 4, 5, 6, 7, 8, 9, 10, 11, 12, 13, 14, 15] rfl rfl hU hW⟩ rfl rfl hl.1 rfl (lv_room (Nat.le_of_ble_eq_true rfl)) dX0_store_116 ⟨(Nat.le_of_ble_eq_true rfl), (Nat.le_of_ble_eq_true rfl)⟩) hP hD hS hA [0, 1, 2, 3, 4, 5, 6, 7, 8, 9, 10, 11, 12, 13, 14, 15] [16, 17, 18, 19, 20] [5, 6, 7, 8, 9, 10, 11, 12, 13, 14, 15, 16, 17, 18, 19, 20, 0, 1, 2, 3, 4] rfl rfl rfl rfl (by decide) rfl (by subst e_ζ_137; rfl) ?_
          clear hP hD hS
          intro H locs hP hD hS
          rw [show ζ_133.2 = ζ_137.2 from by subst e_ζ_137; rfl] at hP hD
          clear h_134
          replace hf := nm_some hf ζ_137 e_ζ_137
          clear e_ζ_137
          obtain ⟨ζ_139, h_138, hf⟩ := b1_some hf
          refine run_v (w := (XW d z b ζ_137.1 ++ [(q_130, .inr (16, [.int (0 : Int32), .int (0 : Int32), .int (0 : Int32)]))])) (tl := ζ_137.2) (wr := [(b 0, .inr (1, [.ref (b 1), .int (ζ_137.1.1 1), .int (ζ_137.1.1 2), .ref (b 2), .ref (b 3), .ref (b 4), va_rf (ζ_137.1.2.2.2.2 6 0), .ref (b 7), .ref (b 13), .ref (b 16), .int (ζ_137.1.1 10)])), (b 1, .inl (d 2, 500, .inl (ζ_137.1.2.2.1 1))), (b 2, .inl (d 5, 2, .inr (.inr (.inr (.inr (fun j => some (z.2.2 j))))))), (b 3, .inl (d 6, 5, .inr (.inr (.inr (.inr (fun j => some (z.2.2 (2 + j)))))))), (b 4, .inr (4, [.int (ζ_137.1.1 20), .long (ζ_137.1.2.1 21), .long (ζ_137.1.2.1 22), .long (ζ_137.1.2.1 23), .ref (b 5), .ref (b 6), .ref (b 0)])), (b 5, .inr (2, [.long (ζ_137.1.2.1 30), .long (ζ_137.1.2.1 31)])), (b 6, .inr (2, [.long (ζ_137.1.2.1 32), .long (ζ_137.1.2.1 33)])), (b 7, .inr (6, [.int (ζ_137.1.1 40), .int (ζ_137.1.1 41), .int (ζ_137.1.1 42), .int (ζ_137.1.1 43), .int (ζ_137.1.1 44), .int (ζ_137.1.1 45), .ref (b 8), .ref (b 9), .ref (b 10), .int (ζ_137.1.1 49), .ref (b 11), .ref (b 12), .int (ζ_137.1.1 52)])), (b 8, .inl (d 0, 16, .inl (ζ_137.1.2.2.1 46))), (b 9, .inl (d 1, 16, .inr (.inl (ζ_137.1.2.2.2.1 47)))), (b 10, .inl (d 1, 16, .inr (.inl (ζ_137.1.2.2.2.1 48)))), (b 11, .inl (d 0, 8, .inl (ζ_137.1.2.2.1 50))), (b 12, .inl (d 0, 8, .inl (ζ_137.1.2.2.1 51))), (b 13, .inr (8, [.int (ζ_137.1.1 60), .int (ζ_137.1.1 61), .int (ζ_137.1.1 62), .int (ζ_137.1.1 63), .ref (b 14), .ref (b 15), .int (ζ_137.1.1 66), .ref (b 17)])), (b 14, .inl (d 0, 100, .inl (ζ_137.1.2.2.1 64))), (b 15, .inl (d 3, 100, .inl (ζ_137.1.2.2.1 65))), (b 17, .inr (18, [.int (ζ_137.1.1 70), .ref (b 18), .int (ζ_137.1.1 72)])), (b 18, .inl (d 4, 16, .inr (.inr (.inr (.inr (ζ_137.1.2.2.2.2 18)))))), (b 16, .inr (17, [.ref (b 19), .int (ζ_137.1.1 81), .int (ζ_137.1.1 82)])), (b 19, .inl (d 4, 17, .inr (.inr (.inr (.inr (ζ_137.1.2.2.2.2 19))))))]) (w' := (XW d z b ζ_137.1 ++ [(q_130, .inr (16, [.int ζ_139.1, .int ζ_139.2.1, .int ζ_139.2.2]))])) (va_runI (As := [.int (ζ_128.1.1 60), .int (ζ_128.1.1 61), .int r_135]) (rest := [.ref q_130]) S (tX17_init l D d z q_130 K (ζ_128.1.1 60) (ζ_128.1.1 61) r_135 ((0 : Int32), (0 : Int32), (0 : Int32)) ζ_139 h_138 _) (cwI 3 hts (lw_meth q1511) rfl rfl rfl (hts _ q129) (hts _ q1509) (hts _ q1510) rfl (by decide +kernel) ⟨(Nat.le_of_ble_eq_true rfl), (Nat.le_of_ble_eq_true rfl)⟩) ⟨Pw.blind, fun U hU hW => Pw.cut (w := (XW d z b ζ_137.1 ++ [(q_130, .inr (16, [.int (0 : Int32), .int (0 : Int32), .int (0 : Int32)]))])) (tl := ζ_137.2) hK hP hD hZ hS hA [20] rfl rfl hU hW⟩ rfl rfl hl.1 rfl (lv_room (Nat.le_of_ble_eq_true rfl)) dX0_store_119 ⟨(Nat.le_of_ble_eq_true rfl), (Nat.le_of_ble_eq_true rfl)⟩) hP hD hS hA [20] [0, 1, 2, 3, 4, 5, 6, 7, 8, 9, 10, 11, 12, 13, 14, 15, 16, 17, 18, 19] [0, 1, 2, 3, 4, 5, 6, 7, 8, 9, 10, 11, 12, 13, 14, 15, 16, 17, 18, 19, 20] rfl rfl rfl rfl (by decide) rfl rfl ?_
          clear hP hD hS
          intro H locs hP hD hS
          clear h_138
          refine lv_astore_n (lv' := [(3, .ref q_130), (2, .int (1 : Int32)), (1, .int r_7), (0, .ref (b 0))]) hx hb dX0_store_122 rfl hl (by decide) rfl (fun ls hl => ?_)
          refine lv_iload_n hx hb dX0_store_123 rfl (lv_at hl 1 rfl) ?_
          refine lv_if_eq (tgt := 143) hx hb dX0_store_124 (by decide) (fun c_140 => ?_) (fun c_140 => ?_)
          · replace hf := it_t hf c_140
            clear c_140
            refine lv_aload_n hx hb dX0_store_143 rfl (lv_at hl 3 rfl) ?_
            refine g_get hx hb hts S.2.2.2.1 hK hP in_X0 0 rfl rfl 8 (by decide) q293 (fun _ h9 => h9) (v := .ref (b 13)) rfl dX0_store_144 ?_
            refine g_getN hx hb hts S.2.2.2.1 hK hP in_X8 13 rfl rfl 7 (by decide) q823 (fun _ h9 => h9) (v := .ref (b 17)) rfl dX0_store_147 ?_
            refine lv_iload_n hx hb dX0_store_150 rfl (lv_at hl 2 rfl) ?_
            refine lv_aload_n hx hb dX0_store_151 rfl (lv_at hl 0 rfl) ?_
            obtain ⟨hes_141, hf⟩ := gaP_some hf
            obtain ⟨ζ_143, h_142, hf⟩ := b1_some hf
            obtain ⟨ζ_144, e_ζ_144⟩ : ∃ x, x = (xP (xI (xI ζ_137.1 70 ζ_143.1) 72 ζ_143.2.1) 18 ζ_143.2.2, ζ_137.2) := ⟨_, rfl⟩
            have hPc := toT_P (isC := [16, 17]) (isR := [0, 1, 2, 3, 4, 5, 6, 7, 8, 9, 10, 11, 12, 13, 14, 15, 18, 19, 20]) (wc := ALP d (b 17) (b 18) (ζ_137.1.1 70, ζ_137.1.1 72, ζ_137.1.2.2.2.2 18)) (wr := [(b 0, .inr (1, [.ref (b 1), .int (ζ_137.1.1 1), .int (ζ_137.1.1 2), .ref (b 2), .ref (b 3), .ref (b 4), va_rf (ζ_137.1.2.2.2.2 6 0), .ref (b 7), .ref (b 13), .ref (b 16), .int (ζ_137.1.1 10)])), (b 1, .inl (d 2, 500, .inl (ζ_137.1.2.2.1 1))), (b 2, .inl (d 5, 2, .inr (.inr (.inr (.inr (fun j => some (z.2.2 j))))))), (b 3, .inl (d 6, 5, .inr (.inr (.inr (.inr (fun j => some (z.2.2 (2 + j)))))))), (b 4, .inr (4, [.int (ζ_137.1.1 20), .long (ζ_137.1.2.1 21), .long (ζ_137.1.2.1 22), .long (ζ_137.1.2.1 23), .ref (b 5), .ref (b 6), .ref (b 0)])), (b 5, .inr (2, [.long (ζ_137.1.2.1 30), .long (ζ_137.1.2.1 31)])), (b 6, .inr (2, [.long (ζ_137.1.2.1 32), .long (ζ_137.1.2.1 33)])), (b 7, .inr (6, [.int (ζ_137.1.1 40), .int (ζ_137.1.1 41), .int (ζ_137.1.1 42), .int (ζ_137.1.1 43), .int (ζ_137.1.1 44), .int (ζ_137.1.1 45), .ref (b 8), .ref (b 9), .ref (b 10), .int (ζ_137.1.1 49), .ref (b 11), .ref (b 12), .int (ζ_137.1.1 52)])), (b 8, .inl (d 0, 16, .inl (ζ_137.1.2.2.1 46))), (b 9, .inl (d 1, 16, .inr (.inl (ζ_137.1.2.2.2.1 47)))), (b 10, .inl (d 1, 16, .inr (.inl (ζ_137.1.2.2.2.1 48)))), (b 11, .inl (d 0, 8, .inl (ζ_137.1.2.2.1 50))), (b 12, .inl (d 0, 8, .inl (ζ_137.1.2.2.1 51))), (b 13, .inr (8, [.int (ζ_137.1.1 60), .int (ζ_137.1.1 61), .int (ζ_137.1.1 62), .int (ζ_137.1.1 63), .ref (b 14), .ref (b 15), .int (ζ_137.1.1 66), .ref (b 17)])), (b 14, .inl (d 0, 100, .inl (ζ_137.1.2.2.1 64))), (b 15, .inl (d 3, 100, .inl (ζ_137.1.2.2.1 65))), (b 16, .inr (17, [.ref (b 19), .int (ζ_137.1.1 81), .int (ζ_137.1.1 82)])), (b 19, .inl (d 4, 17, .inr (.inr (.inr (.inr (ζ_137.1.2.2.2.2 19)))))), (q_130, .inr (16, [.int ζ_139.1, .int ζ_139.2.1, .int ζ_139.2.2]))]) (w := (XW d z b ζ_137.1 ++ [(q_130, .inr (16, [.int ζ_139.1, .int ζ_139.2.1, .int ζ_139.2.2]))])) (tl := ζ_137.2) hP rfl rfl
            have hDc := toT_D (isC := [16, 17]) (isR := [0, 1, 2, 3, 4, 5, 6, 7, 8, 9, 10, 11, 12, 13, 14, 15, 18, 19, 20]) (wc := ALP d (b 17) (b 18) (ζ_137.1.1 70, ζ_137.1.1 72, ζ_137.1.2.2.2.2 18)) (wr := [(b 0, .inr (1, [.ref (b 1), .int (ζ_137.1.1 1), .int (ζ_137.1.1 2), .ref (b 2), .ref (b 3), .ref (b 4), va_rf (ζ_137.1.2.2.2.2 6 0), .ref (b 7), .ref (b 13), .ref (b 16), .int (ζ_137.1.1 10)])), (b 1, .inl (d 2, 500, .inl (ζ_137.1.2.2.1 1))), (b 2, .inl (d 5, 2, .inr (.inr (.inr (.inr (fun j => some (z.2.2 j))))))), (b 3, .inl (d 6, 5, .inr (.inr (.inr (.inr (fun j => some (z.2.2 (2 + j)))))))), (b 4, .inr (4, [.int (ζ_137.1.1 20), .long (ζ_137.1.2.1 21), .long (ζ_137.1.2.1 22), .long (ζ_137.1.2.1 23), .ref (b 5), .ref (b 6), .ref (b 0)])), (b 5, .inr (2, [.long (ζ_137.1.2.1 30), .long (ζ_137.1.2.1 31)])), (b 6, .inr (2, [.long (ζ_137.1.2.1 32), .long (ζ_137.1.2.1 33)])), (b 7, .inr (6, [.int (ζ_137.1.1 40), .int (ζ_137.1.1 41), .int (ζ_137.1.1 42), .int (ζ_137.1.1 43), .int (ζ_137.1.1 44), .int (ζ_137.1.1 45), .ref (b 8), .ref (b 9), .ref (b 10), .int (ζ_137.1.1 49), .ref (b 11), .ref (b 12), .int (ζ_137.1.1 52)])), (b 8, .inl (d 0, 16, .inl (ζ_137.1.2.2.1 46))), (b 9, .inl (d 1, 16, .inr (.inl (ζ_137.1.2.2.2.1 47)))), (b 10, .inl (d 1, 16, .inr (.inl (ζ_137.1.2.2.2.1 48)))), (b 11, .inl (d 0, 8, .inl (ζ_137.1.2.2.1 50))), (b 12, .inl (d 0, 8, .inl (ζ_137.1.2.2.1 51))), (b 13, .inr (8, [.int (ζ_137.1.1 60), .int (ζ_137.1.1 61), .int (ζ_137.1.1 62), .int (ζ_137.1.1 63), .ref (b 14), .ref (b 15), .int (ζ_137.1.1 66), .ref (b 17)])), (b 14, .inl (d 0, 100, .inl (ζ_137.1.2.2.1 64))), (b 15, .inl (d 3, 100, .inl (ζ_137.1.2.2.1 65))), (b 16, .inr (17, [.ref (b 19), .int (ζ_137.1.1 81), .int (ζ_137.1.1 82)])), (b 19, .inl (d 4, 17, .inr (.inr (.inr (.inr (ζ_137.1.2.2.2.2 19)))))), (q_130, .inr (16, [.int ζ_139.1, .int ζ_139.2.1, .int ζ_139.2.2]))]) (w := (XW d z b ζ_137.1 ++ [(q_130, .inr (16, [.int ζ_139.1, .int ζ_139.2.1, .int ζ_139.2.2]))])) (tl := ζ_137.2) hD rfl rfl rfl
            refine runW_v (va_runV (As := [.int r_7, .ref q_130]) (rest := []) S (tJ14_add_3 l D d z (b 17) (b 18) ([(b 0, .inr (1, [.ref (b 1), .int (ζ_137.1.1 1), .int (ζ_137.1.1 2), .ref (b 2), .ref (b 3), .ref (b 4), va_rf (ζ_137.1.2.2.2.2 6 0), .ref (b 7), .ref (b 13), .ref (b 16), .int (ζ_137.1.1 10)])), (b 1, .inl (d 2, 500, .inl (ζ_137.1.2.2.1 1))), (b 2, .inl (d 5, 2, .inr (.inr (.inr (.inr (fun j => some (z.2.2 j))))))), (b 3, .inl (d 6, 5, .inr (.inr (.inr (.inr (fun j => some (z.2.2 (2 + j)))))))), (b 4, .inr (4, [.int (ζ_137.1.1 20), .long (ζ_137.1.2.1 21), .long (ζ_137.1.2.1 22), .long (ζ_137.1.2.1 23), .ref (b 5), .ref (b 6), .ref (b 0)])), (b 5, .inr (2, [.long (ζ_137.1.2.1 30), .long (ζ_137.1.2.1 31)])), (b 6, .inr (2, [.long (ζ_137.1.2.1 32), .long (ζ_137.1.2.1 33)])), (b 7, .inr (6, [.int (ζ_137.1.1 40), .int (ζ_137.1.1 41), .int (ζ_137.1.1 42), .int (ζ_137.1.1 43), .int (ζ_137.1.1 44), .int (ζ_137.1.1 45), .ref (b 8), .ref (b 9), .ref (b 10), .int (ζ_137.1.1 49), .ref (b 11), .ref (b 12), .int (ζ_137.1.1 52)])), (b 8, .inl (d 0, 16, .inl (ζ_137.1.2.2.1 46))), (b 9, .inl (d 1, 16, .inr (.inl (ζ_137.1.2.2.2.1 47)))), (b 10, .inl (d 1, 16, .inr (.inl (ζ_137.1.2.2.2.1 48)))), (b 11, .inl (d 0, 8, .inl (ζ_137.1.2.2.1 50))), (b 12, .inl (d 0, 8, .inl (ζ_137.1.2.2.1 51))), (b 13, .inr (8, [.int (ζ_137.1.1 60), .int (ζ_137.1.1 61), .int (ζ_137.1.1 62), .int (ζ_137.1.1 63), .ref (b 14), .ref (b 15), .int (ζ_137.1.1 66), .ref (b 17)])), (b 14, .inl (d 0, 100, .inl (ζ_137.1.2.2.1 64))), (b 15, .inl (d 3, 100, .inl (ζ_137.1.2.2.1 65))), (b 16, .inr (17, [.ref (b 19), .int (ζ_137.1.1 81), .int (ζ_137.1.1 82)])), (b 19, .inl (d 4, 17, .inr (.inr (.inr (.inr (ζ_137.1.2.2.2.2 19)))))), (q_130, .inr (16, [.int ζ_139.1, .int ζ_139.2.1, .int ζ_139.2.2]))] ++ ζ_137.2) K r_7 q_130 (ζ_137.1.1 70, ζ_137.1.1 72, ζ_137.1.2.2.2.2 18) ζ_143 h_142 ⟨_, List.mem_append_left _ (List.mem_of_getElem? (i := 18) rfl)⟩ (fun j q hq => (hes_141 j q hq).imp fun _ h => List.mem_append_right _ h) _) (cwV 2 hts (lw_V q1530 q1531 q1532 q118 q1533) rfl rfl rfl (by decide +kernel) ⟨(Nat.le_of_ble_eq_true rfl), (Nat.le_of_ble_eq_true rfl)⟩) ⟨Pw.blind, (va_recv hK.1 hP (ci := 18) (q0 := 16) rfl rfl), fun U hU hW => Pw.at hK hPc hDc hZ hS hA hU hW⟩ rfl rfl hl.1 rfl (lv_room (Nat.le_of_ble_eq_true rfl)) dX0_store_152 ⟨(Nat.le_of_ble_eq_true rfl), (Nat.le_of_ble_eq_true rfl)⟩) hPc hDc hS hA ?_
            clear hP hD hS hPc hDc
            intro H locs hP hD hS
            replace hP := ofT_P (perm := [2, 3, 4, 5, 6, 7, 8, 9, 10, 11, 12, 13, 14, 15, 16, 17, 0, 1, 18, 19, 20]) (w' := (XW d z b ζ_144.1 ++ [(q_130, .inr (16, [.int ζ_139.1, .int ζ_139.2.1, .int ζ_139.2.2]))])) hP (by subst e_ζ_144; rfl)
            replace hD := ofT_D (perm := [2, 3, 4, 5, 6, 7, 8, 9, 10, 11, 12, 13, 14, 15, 16, 17, 0, 1, 18, 19, 20]) (w' := (XW d z b ζ_144.1 ++ [(q_130, .inr (16, [.int ζ_139.1, .int ζ_139.2.1, .int ζ_139.2.2]))])) hD rfl (by subst e_ζ_144; rfl)
            rw [show ζ_137.2 = ζ_144.2 from by subst e_ζ_144; rfl] at hP hD
            clear h_142
            replace hf := nm_some hf ζ_144 e_ζ_144
            clear e_ζ_144
            refine lv_iload_n hx hb dX0_store_155 rfl (lv_at hl 2 rfl) ?_
            refine W.widen (k := 6) (n := 230) (Nat.le_of_ble_eq_true rfl) (Nat.le_of_ble_eq_true rfl) ?_
            obtain ⟨ζ_145, e_ζ_145⟩ : ∃ x, x = (ζ_144.1, [(q_130, .inr (16, [.int ζ_139.1, .int ζ_139.2.1, .int ζ_139.2.2]))] ++ ζ_144.2) := ⟨_, rfl⟩
            replace hf := nm_some hf ζ_145 e_ζ_145
            replace hP := kp_P (w := XW d z b ζ_144.1) (ks := [(q_130, .inr (16, [.int ζ_139.1, .int ζ_139.2.1, .int ζ_139.2.2]))]) (w' := XW d z b ζ_145.1) (t2 := ζ_145.2) hP (by subst e_ζ_145; rfl) (by subst e_ζ_145; rfl)
            replace hD := kp_D (w := XW d z b ζ_144.1) (ks := [(q_130, .inr (16, [.int ζ_139.1, .int ζ_139.2.1, .int ζ_139.2.2]))]) (w' := XW d z b ζ_145.1) (t2 := ζ_145.2) hD (by subst e_ζ_145; rfl) (by subst e_ζ_145; rfl)
            clear e_ζ_145
            exact hret _ _ _ _ _ _ _ hf dX0_store_156 hP hD hS
          · replace hf := it_f hf c_140
            clear c_140
            refine lv_aload_n hx hb dX0_store_127 rfl (lv_at hl 3 rfl) ?_
            refine g_get hx hb hts S.2.2.2.1 hK hP in_X0 0 rfl rfl 8 (by decide) q293 (fun _ h9 => h9) (v := .ref (b 13)) rfl dX0_store_128 ?_
            refine g_getN hx hb hts S.2.2.2.1 hK hP in_X8 13 rfl rfl 7 (by decide) q823 (fun _ h9 => h9) (v := .ref (b 17)) rfl dX0_store_131 ?_
            refine lv_iload_n hx hb dX0_store_134 rfl (lv_at hl 2 rfl) ?_
            refine lv_aload_n hx hb dX0_store_135 rfl (lv_at hl 0 rfl) ?_
            obtain ⟨r_147, ζ_148, h_146, hf⟩ := b2_some hf
            obtain ⟨ζ_149, e_ζ_149⟩ : ∃ x, x = (xP (xI (xI ζ_137.1 70 ζ_148.1) 72 ζ_148.2.1) 18 ζ_148.2.2, ζ_137.2) := ⟨_, rfl⟩
            have hPc := toT_P (isC := [16, 17]) (isR := [0, 1, 2, 3, 4, 5, 6, 7, 8, 9, 10, 11, 12, 13, 14, 15, 18, 19, 20]) (wc := ALP d (b 17) (b 18) (ζ_137.1.1 70, ζ_137.1.1 72, ζ_137.1.2.2.2.2 18)) (wr := [(b 0, .inr (1, [.ref (b 1), .int (ζ_137.1.1 1), .int (ζ_137.1.1 2), .ref (b 2), .ref (b 3), .ref (b 4), va_rf (ζ_137.1.2.2.2.2 6 0), .ref (b 7), .ref (b 13), .ref (b 16), .int (ζ_137.1.1 10)])), (b 1, .inl (d 2, 500, .inl (ζ_137.1.2.2.1 1))), (b 2, .inl (d 5, 2, .inr (.inr (.inr (.inr (fun j => some (z.2.2 j))))))), (b 3, .inl (d 6, 5, .inr (.inr (.inr (.inr (fun j => some (z.2.2 (2 + j)))))))), (b 4, .inr (4, [.int (ζ_137.1.1 20), .long (ζ_137.1.2.1 21), .long (ζ_137.1.2.1 22), .long (ζ_137.1.2.1 23), .ref (b 5), .ref (b 6), .ref (b 0)])), (b 5, .inr (2, [.long (ζ_137.1.2.1 30), .long (ζ_137.1.2.1 31)])), (b 6, .inr (2, [.long (ζ_137.1.2.1 32), .long (ζ_137.1.2.1 33)])), (b 7, .inr (6, [.int (ζ_137.1.1 40), .int (ζ_137.1.1 41), .int (ζ_137.1.1 42), .int (ζ_137.1.1 43), .int (ζ_137.1.1 44), .int (ζ_137.1.1 45), .ref (b 8), .ref (b 9), .ref (b 10), .int (ζ_137.1.1 49), .ref (b 11), .ref (b 12), .int (ζ_137.1.1 52)])), (b 8, .inl (d 0, 16, .inl (ζ_137.1.2.2.1 46))), (b 9, .inl (d 1, 16, .inr (.inl (ζ_137.1.2.2.2.1 47)))), (b 10, .inl (d 1, 16, .inr (.inl (ζ_137.1.2.2.2.1 48)))), (b 11, .inl (d 0, 8, .inl (ζ_137.1.2.2.1 50))), (b 12, .inl (d 0, 8, .inl (ζ_137.1.2.2.1 51))), (b 13, .inr (8, [.int (ζ_137.1.1 60), .int (ζ_137.1.1 61), .int (ζ_137.1.1 62), .int (ζ_137.1.1 63), .ref (b 14), .ref (b 15), .int (ζ_137.1.1 66), .ref (b 17)])), (b 14, .inl (d 0, 100, .inl (ζ_137.1.2.2.1 64))), (b 15, .inl (d 3, 100, .inl (ζ_137.1.2.2.1 65))), (b 16, .inr (17, [.ref (b 19), .int (ζ_137.1.1 81), .int (ζ_137.1.1 82)])), (b 19, .inl (d 4, 17, .inr (.inr (.inr (.inr (ζ_137.1.2.2.2.2 19)))))), (q_130, .inr (16, [.int ζ_139.1, .int ζ_139.2.1, .int ζ_139.2.2]))]) (w := (XW d z b ζ_137.1 ++ [(q_130, .inr (16, [.int ζ_139.1, .int ζ_139.2.1, .int ζ_139.2.2]))])) (tl := ζ_137.2) hP rfl rfl
            have hDc := toT_D (isC := [16, 17]) (isR := [0, 1, 2, 3, 4, 5, 6, 7, 8, 9, 10, 11, 12, 13, 14, 15, 18, 19, 20]) (wc := ALP d (b 17) (b 18) (ζ_137.1.1 70, ζ_137.1.1 72, ζ_137.1.2.2.2.2 18)) (wr := [(b 0, .inr (1, [.ref (b 1), .int (ζ_137.1.1 1), .int (ζ_137.1.1 2), .ref (b 2), .ref (b 3), .ref (b 4), va_rf (ζ_137.1.2.2.2.2 6 0), .ref (b 7), .ref (b 13), .ref (b 16), .int (ζ_137.1.1 10)])), (b 1, .inl (d 2, 500, .inl (ζ_137.1.2.2.1 1))), (b 2, .inl (d 5, 2, .inr (.inr (.inr (.inr (fun j => some (z.2.2 j))))))), (b 3, .inl (d 6, 5, .inr (.inr (.inr (.inr (fun j => some (z.2.2 (2 + j)))))))), (b 4, .inr (4, [.int (ζ_137.1.1 20), .long (ζ_137.1.2.1 21), .long (ζ_137.1.2.1 22), .long (ζ_137.1.2.1 23), .ref (b 5), .ref (b 6), .ref (b 0)])), (b 5, .inr (2, [.long (ζ_137.1.2.1 30), .long (ζ_137.1.2.1 31)])), (b 6, .inr (2, [.long (ζ_137.1.2.1 32), .long (ζ_137.1.2.1 33)])), (b 7, .inr (6, [.int (ζ_137.1.1 40), .int (ζ_137.1.1 41), .int (ζ_137.1.1 42), .int (ζ_137.1.1 43), .int (ζ_137.1.1 44), .int (ζ_137.1.1 45), .ref (b 8), .ref (b 9), .ref (b 10), .int (ζ_137.1.1 49), .ref (b 11), .ref (b 12), .int (ζ_137.1.1 52)])), (b 8, .inl (d 0, 16, .inl (ζ_137.1.2.2.1 46))), (b 9, .inl (d 1, 16, .inr (.inl (ζ_137.1.2.2.2.1 47)))), (b 10, .inl (d 1, 16, .inr (.inl (ζ_137.1.2.2.2.1 48)))), (b 11, .inl (d 0, 8, .inl (ζ_137.1.2.2.1 50))), (b 12, .inl (d 0, 8, .inl (ζ_137.1.2.2.1 51))), (b 13, .inr (8, [.int (ζ_137.1.1 60), .int (ζ_137.1.1 61), .int (ζ_137.1.1 62), .int (ζ_137.1.1 63), .ref (b 14), .ref (b 15), .int (ζ_137.1.1 66), .ref (b 17)])), (b 14, .inl (d 0, 100, .inl (ζ_137.1.2.2.1 64))), (b 15, .inl (d 3, 100, .inl (ζ_137.1.2.2.1 65))), (b 16, .inr (17, [.ref (b 19), .int (ζ_137.1.1 81), .int (ζ_137.1.1 82)])), (b 19, .inl (d 4, 17, .inr (.inr (.inr (.inr (ζ_137.1.2.2.2.2 19)))))), (q_130, .inr (16, [.int ζ_139.1, .int ζ_139.2.1, .int ζ_139.2.2]))]) (w := (XW d z b ζ_137.1 ++ [(q_130, .inr (16, [.int ζ_139.1, .int ζ_139.2.1, .int ζ_139.2.2]))])) (tl := ζ_137.2) hD rfl rfl rfl
            refine runW_rS (va_runV (As := [.int r_7, .ref q_130]) (rest := []) S (tJ14_set l D d z (b 17) (b 18) ([(b 0, .inr (1, [.ref (b 1), .int (ζ_137.1.1 1), .int (ζ_137.1.1 2), .ref (b 2), .ref (b 3), .ref (b 4), va_rf (ζ_137.1.2.2.2.2 6 0), .ref (b 7), .ref (b 13), .ref (b 16), .int (ζ_137.1.1 10)])), (b 1, .inl (d 2, 500, .inl (ζ_137.1.2.2.1 1))), (b 2, .inl (d 5, 2, .inr (.inr (.inr (.inr (fun j => some (z.2.2 j))))))), (b 3, .inl (d 6, 5, .inr (.inr (.inr (.inr (fun j => some (z.2.2 (2 + j)))))))), (b 4, .inr (4, [.int (ζ_137.1.1 20), .long (ζ_137.1.2.1 21), .long (ζ_137.1.2.1 22), .long (ζ_137.1.2.1 23), .ref (b 5), .ref (b 6), .ref (b 0)])), (b 5, .inr (2, [.long (ζ_137.1.2.1 30), .long (ζ_137.1.2.1 31)])), (b 6, .inr (2, [.long (ζ_137.1.2.1 32), .long (ζ_137.1.2.1 33)])), (b 7, .inr (6, [.int (ζ_137.1.1 40), .int (ζ_137.1.1 41), .int (ζ_137.1.1 42), .int (ζ_137.1.1 43), .int (ζ_137.1.1 44), .int (ζ_137.1.1 45), .ref (b 8), .ref (b 9), .ref (b 10), .int (ζ_137.1.1 49), .ref (b 11), .ref (b 12), .int (ζ_137.1.1 52)])), (b 8, .inl (d 0, 16, .inl (ζ_137.1.2.2.1 46))), (b 9, .inl (d 1, 16, .inr (.inl (ζ_137.1.2.2.2.1 47)))), (b 10, .inl (d 1, 16, .inr (.inl (ζ_137.1.2.2.2.1 48)))), (b 11, .inl (d 0, 8, .inl (ζ_137.1.2.2.1 50))), (b 12, .inl (d 0, 8, .inl (ζ_137.1.2.2.1 51))), (b 13, .inr (8, [.int (ζ_137.1.1 60), .int (ζ_137.1.1 61), .int (ζ_137.1.1 62), .int (ζ_137.1.1 63), .ref (b 14), .ref (b 15), .int (ζ_137.1.1 66), .ref (b 17)])), (b 14, .inl (d 0, 100, .inl (ζ_137.1.2.2.1 64))), (b 15, .inl (d 3, 100, .inl (ζ_137.1.2.2.1 65))), (b 16, .inr (17, [.ref (b 19), .int (ζ_137.1.1 81), .int (ζ_137.1.1 82)])), (b 19, .inl (d 4, 17, .inr (.inr (.inr (.inr (ζ_137.1.2.2.2.2 19)))))), (q_130, .inr (16, [.int ζ_139.1, .int ζ_139.2.1, .int ζ_139.2.2]))] ++ ζ_137.2) K r_7 q_130 (ζ_137.1.1 70, ζ_137.1.1 72, ζ_137.1.2.2.2.2 18) r_147 ζ_148 h_146 ⟨_, List.mem_append_left _ (List.mem_of_getElem? (i := 18) rfl)⟩ _) (cwV 2 hts (lw_V q1526 q1527 q1528 q118 q1529) rfl rfl rfl (by decide +kernel) ⟨(Nat.le_of_ble_eq_true rfl), (Nat.le_of_ble_eq_true rfl)⟩) ⟨Pw.blind, (va_recv hK.1 hP (ci := 18) (q0 := 16) rfl rfl), fun U hU hW => Pw.at hK hPc hDc hZ hS hA hU hW⟩ rfl rfl hl.1 rfl (lv_room (Nat.le_of_ble_eq_true rfl)) dX0_store_136 ⟨(Nat.le_of_ble_eq_true rfl), (Nat.le_of_ble_eq_true rfl)⟩) hPc hDc hS hA ?_
            clear hP hD hS hPc hDc
            intro _ _ H locs hP hD hS
            replace hP := ofT_P (perm := [2, 3, 4, 5, 6, 7, 8, 9, 10, 11, 12, 13, 14, 15, 16, 17, 0, 1, 18, 19, 20]) (w' := (XW d z b ζ_149.1 ++ [(q_130, .inr (16, [.int ζ_139.1, .int ζ_139.2.1, .int ζ_139.2.2]))])) hP (by subst e_ζ_149; rfl)
            replace hD := ofT_D (perm := [2, 3, 4, 5, 6, 7, 8, 9, 10, 11, 12, 13, 14, 15, 16, 17, 0, 1, 18, 19, 20]) (w' := (XW d z b ζ_149.1 ++ [(q_130, .inr (16, [.int ζ_139.1, .int ζ_139.2.1, .int ζ_139.2.2]))])) hD rfl (by subst e_ζ_149; rfl)
            rw [show ζ_137.2 = ζ_149.2 from by subst e_ζ_149; rfl] at hP hD
            clear h_146
            replace hf := nm_some hf ζ_149 e_ζ_149
            clear e_ζ_149
            refine lv_pop hx hb dX0_store_139 rfl ?_
            refine lv_goto (tgt := 155) hx hb dX0_store_140 (by decide) ?_
            refine lv_iload_n hx hb dX0_store_155 rfl (lv_at hl 2 rfl) ?_
            refine W.widen (k := 6) (n := 230) (Nat.le_of_ble_eq_true rfl) (Nat.le_of_ble_eq_true rfl) ?_
            obtain ⟨ζ_150, e_ζ_150⟩ : ∃ x, x = (ζ_149.1, [(q_130, .inr (16, [.int ζ_139.1, .int ζ_139.2.1, .int ζ_139.2.2]))] ++ ζ_149.2) := ⟨_, rfl⟩
            replace hf := nm_some hf ζ_150 e_ζ_150
            replace hP := kp_P (w := XW d z b ζ_149.1) (ks := [(q_130, .inr (16, [.int ζ_139.1, .int ζ_139.2.1, .int ζ_139.2.2]))]) (w' := XW d z b ζ_150.1) (t2 := ζ_150.2) hP (by subst e_ζ_150; rfl) (by subst e_ζ_150; rfl)
            replace hD := kp_D (w := XW d z b ζ_149.1) (ks := [(q_130, .inr (16, [.int ζ_139.1, .int ζ_139.2.1, .int ζ_139.2.2]))]) (w' := XW d z b ζ_150.1) (t2 := ζ_150.2) hD (by subst e_ζ_150; rfl) (by subst e_ζ_150; rfl)
            clear e_ζ_150
            exact hret _ _ _ _ _ _ _ hf dX0_store_156 hP hD hS
        · replace hf := itU_t hf c_125
          clear c_125
          refine lv_aload_n hx hb dX0_store_72 rfl (lv_at hl 2 rfl) ?_
          refine g_get hx hb hts S.2.2.2.1 hK hP in_X0 0 rfl rfl 8 (by decide) q293 (fun _ h9 => h9) (v := .ref (b 13)) rfl dX0_store_73 ?_
          refine g_getN hx hb hts S.2.2.2.1 hK hP in_X8 13 rfl rfl 7 (by decide) q823 (fun _ h9 => h9) (v := .ref (b 17)) rfl dX0_store_76 ?_
          obtain ⟨r_152, h_151, hf⟩ := b1U hf
          have hPc := toT_P (isC := [16, 17]) (isR := [0, 1, 2, 3, 4, 5, 6, 7, 8, 9, 10, 11, 12, 13, 14, 15, 18, 19]) (wc := ALP d (b 17) (b 18) (ζ_8.1.1 70, ζ_8.1.1 72, ζ_8.1.2.2.2.2 18)) (wr := [(b 0, .inr (1, [.ref (b 1), .int (ζ_8.1.1 1), .int (ζ_8.1.1 2), .ref (b 2), .ref (b 3), .ref (b 4), va_rf (ζ_8.1.2.2.2.2 6 0), .ref (b 7), .ref (b 13), .ref (b 16), .int (ζ_8.1.1 10)])), (b 1, .inl (d 2, 500, .inl (ζ_8.1.2.2.1 1))), (b 2, .inl (d 5, 2, .inr (.inr (.inr (.inr (fun j => some (z.2.2 j))))))), (b 3, .inl (d 6, 5, .inr (.inr (.inr (.inr (fun j => some (z.2.2 (2 + j)))))))), (b 4, .inr (4, [.int (ζ_8.1.1 20), .long (ζ_8.1.2.1 21), .long (ζ_8.1.2.1 22), .long (ζ_8.1.2.1 23), .ref (b 5), .ref (b 6), .ref (b 0)])), (b 5, .inr (2, [.long (ζ_8.1.2.1 30), .long (ζ_8.1.2.1 31)])), (b 6, .inr (2, [.long (ζ_8.1.2.1 32), .long (ζ_8.1.2.1 33)])), (b 7, .inr (6, [.int (ζ_8.1.1 40), .int (ζ_8.1.1 41), .int (ζ_8.1.1 42), .int (ζ_8.1.1 43), .int (ζ_8.1.1 44), .int (ζ_8.1.1 45), .ref (b 8), .ref (b 9), .ref (b 10), .int (ζ_8.1.1 49), .ref (b 11), .ref (b 12), .int (ζ_8.1.1 52)])), (b 8, .inl (d 0, 16, .inl (ζ_8.1.2.2.1 46))), (b 9, .inl (d 1, 16, .inr (.inl (ζ_8.1.2.2.2.1 47)))), (b 10, .inl (d 1, 16, .inr (.inl (ζ_8.1.2.2.2.1 48)))), (b 11, .inl (d 0, 8, .inl (ζ_8.1.2.2.1 50))), (b 12, .inl (d 0, 8, .inl (ζ_8.1.2.2.1 51))), (b 13, .inr (8, [.int (ζ_8.1.1 60), .int (ζ_8.1.1 61), .int (ζ_8.1.1 62), .int (ζ_8.1.1 63), .ref (b 14), .ref (b 15), .int (ζ_8.1.1 66), .ref (b 17)])), (b 14, .inl (d 0, 100, .inl (ζ_8.1.2.2.1 64))), (b 15, .inl (d 3, 100, .inl (ζ_8.1.2.2.1 65))), (b 16, .inr (17, [.ref (b 19), .int (ζ_8.1.1 81), .int (ζ_8.1.1 82)])), (b 19, .inl (d 4, 17, .inr (.inr (.inr (.inr (ζ_8.1.2.2.2.2 19))))))]) (w := XW d z b ζ_8.1) (tl := ζ_8.2) hP rfl rfl
          have hDc := toT_D (isC := [16, 17]) (isR := [0, 1, 2, 3, 4, 5, 6, 7, 8, 9, 10, 11, 12, 13, 14, 15, 18, 19]) (wc := ALP d (b 17) (b 18) (ζ_8.1.1 70, ζ_8.1.1 72, ζ_8.1.2.2.2.2 18)) (wr := [(b 0, .inr (1, [.ref (b 1), .int (ζ_8.1.1 1), .int (ζ_8.1.1 2), .ref (b 2), .ref (b 3), .ref (b 4), va_rf (ζ_8.1.2.2.2.2 6 0), .ref (b 7), .ref (b 13), .ref (b 16), .int (ζ_8.1.1 10)])), (b 1, .inl (d 2, 500, .inl (ζ_8.1.2.2.1 1))), (b 2, .inl (d 5, 2, .inr (.inr (.inr (.inr (fun j => some (z.2.2 j))))))), (b 3, .inl (d 6, 5, .inr (.inr (.inr (.inr (fun j => some (z.2.2 (2 + j)))))))), (b 4, .inr (4, [.int (ζ_8.1.1 20), .long (ζ_8.1.2.1 21), .long (ζ_8.1.2.1 22), .long (ζ_8.1.2.1 23), .ref (b 5), .ref (b 6), .ref (b 0)])), (b 5, .inr (2, [.long (ζ_8.1.2.1 30), .long (ζ_8.1.2.1 31)])), (b 6, .inr (2, [.long (ζ_8.1.2.1 32), .long (ζ_8.1.2.1 33)])), (b 7, .inr (6, [.int (ζ_8.1.1 40), .int (ζ_8.1.1 41), .int (ζ_8.1.1 42), .int (ζ_8.1.1 43), .int (ζ_8.1.1 44), .int (ζ_8.1.1 45), .ref (b 8), .ref (b 9), .ref (b 10), .int (ζ_8.1.1 49), .ref (b 11), .ref (b 12), .int (ζ_8.1.1 52)])), (b 8, .inl (d 0, 16, .inl (ζ_8.1.2.2.1 46))), (b 9, .inl (d 1, 16, .inr (.inl (ζ_8.1.2.2.2.1 47)))), (b 10, .inl (d 1, 16, .inr (.inl (ζ_8.1.2.2.2.1 48)))), (b 11, .inl (d 0, 8, .inl (ζ_8.1.2.2.1 50))), (b 12, .inl (d 0, 8, .inl (ζ_8.1.2.2.1 51))), (b 13, .inr (8, [.int (ζ_8.1.1 60), .int (ζ_8.1.1 61), .int (ζ_8.1.1 62), .int (ζ_8.1.1 63), .ref (b 14), .ref (b 15), .int (ζ_8.1.1 66), .ref (b 17)])), (b 14, .inl (d 0, 100, .inl (ζ_8.1.2.2.1 64))), (b 15, .inl (d 3, 100, .inl (ζ_8.1.2.2.1 65))), (b 16, .inr (17, [.ref (b 19), .int (ζ_8.1.1 81), .int (ζ_8.1.1 82)])), (b 19, .inl (d 4, 17, .inr (.inr (.inr (.inr (ζ_8.1.2.2.2.2 19))))))]) (w := XW d z b ζ_8.1) (tl := ζ_8.2) hD rfl rfl rfl
          refine runW_i (va_runV (As := []) (rest := []) S (tJ14_size l D d z (b 17) (b 18) ([(b 0, .inr (1, [.ref (b 1), .int (ζ_8.1.1 1), .int (ζ_8.1.1 2), .ref (b 2), .ref (b 3), .ref (b 4), va_rf (ζ_8.1.2.2.2.2 6 0), .ref (b 7), .ref (b 13), .ref (b 16), .int (ζ_8.1.1 10)])), (b 1, .inl (d 2, 500, .inl (ζ_8.1.2.2.1 1))), (b 2, .inl (d 5, 2, .inr (.inr (.inr (.inr (fun j => some (z.2.2 j))))))), (b 3, .inl (d 6, 5, .inr (.inr (.inr (.inr (fun j => some (z.2.2 (2 + j)))))))), (b 4, .inr (4, [.int (ζ_8.1.1 20), .long (ζ_8.1.2.1 21), .long (ζ_8.1.2.1 22), .long (ζ_8.1.2.1 23), .ref (b 5), .ref (b 6), .ref (b 0)])), (b 5, .inr (2, [.long (ζ_8.1.2.1 30), .long (ζ_8.1.2.1 31)])), (b 6, .inr (2, [.long (ζ_8.1.2.1 32), .long (ζ_8.1.2.1 33)])), (b 7, .inr (6, [.int (ζ_8.1.1 40), .int (ζ_8.1.1 41), .int (ζ_8.1.1 42), .int (ζ_8.1.1 43), .int (ζ_8.1.1 44), .int (ζ_8.1.1 45), .ref (b 8), .ref (b 9), .ref (b 10), .int (ζ_8.1.1 49), .ref (b 11), .ref (b 12), .int (ζ_8.1.1 52)])), (b 8, .inl (d 0, 16, .inl (ζ_8.1.2.2.1 46))), (b 9, .inl (d 1, 16, .inr (.inl (ζ_8.1.2.2.2.1 47)))), (b 10, .inl (d 1, 16, .inr (.inl (ζ_8.1.2.2.2.1 48)))), (b 11, .inl (d 0, 8, .inl (ζ_8.1.2.2.1 50))), (b 12, .inl (d 0, 8, .inl (ζ_8.1.2.2.1 51))), (b 13, .inr (8, [.int (ζ_8.1.1 60), .int (ζ_8.1.1 61), .int (ζ_8.1.1 62), .int (ζ_8.1.1 63), .ref (b 14), .ref (b 15), .int (ζ_8.1.1 66), .ref (b 17)])), (b 14, .inl (d 0, 100, .inl (ζ_8.1.2.2.1 64))), (b 15, .inl (d 3, 100, .inl (ζ_8.1.2.2.1 65))), (b 16, .inr (17, [.ref (b 19), .int (ζ_8.1.1 81), .int (ζ_8.1.1 82)])), (b 19, .inl (d 4, 17, .inr (.inr (.inr (.inr (ζ_8.1.2.2.2.2 19))))))] ++ ζ_8.2) K (ζ_8.1.1 70, ζ_8.1.1 72, ζ_8.1.2.2.2.2 18) r_152 h_151 _) (cwV 0 hts (lw_V q1392 q938 q939 q118 q940) rfl rfl rfl (by decide +kernel) ⟨(Nat.le_of_ble_eq_true rfl), (Nat.le_of_ble_eq_true rfl)⟩) ⟨Pw.blind, (va_recv hK.1 hP (ci := 18) (q0 := 16) rfl rfl), fun U hU hW => Pw.at hK hPc hDc hZ hS hA hU hW⟩ rfl rfl hl.1 rfl (lv_room (Nat.le_of_ble_eq_true rfl)) dX0_store_79 ⟨(Nat.le_of_ble_eq_true rfl), (Nat.le_of_ble_eq_true rfl)⟩) hPc hDc hS hA ?_
          clear hP hD hS hPc hDc
          intro H locs hP hD hS
          replace hP := ofT_P (perm := [2, 3, 4, 5, 6, 7, 8, 9, 10, 11, 12, 13, 14, 15, 16, 17, 0, 1, 18, 19]) (w' := XW d z b ζ_8.1) hP rfl
          replace hD := ofT_D (perm := [2, 3, 4, 5, 6, 7, 8, 9, 10, 11, 12, 13, 14, 15, 16, 17, 0, 1, 18, 19]) (w' := XW d z b ζ_8.1) hD rfl rfl
          clear h_151
          refine lv_bipush (v := 16) hx hb dX0_store_82 (by decide) ?_
          refine lv_icmp_ne (tgt := 90) hx hb dX0_store_84 (by decide) (fun c_153 => ?_) (fun c_153 => ?_)
          · replace hf := itU_f hf c_153
            clear c_153
            refine lv_aload_n hx hb dX0_store_90 rfl (lv_at hl 2 rfl) ?_
            obtain ⟨y_155, h_154, hf⟩ := b1u_some hf
            refine runW_vS (va_runV (As := []) (rest := []) S (tX0_remember l D d z b K ζ_8 y_155 h_154 _) (cwV 0 hts (lw_V q899 q901 qs20 q94 q902) rfl rfl rfl (by decide +kernel) ⟨(Nat.le_of_ble_eq_true rfl), (Nat.le_of_ble_eq_true rfl)⟩) ⟨Pw.blind, (va_recv hK.1 hP (ci := 1) (q0 := 0) rfl rfl), fun U hU hW => Pw.at hK hP hD hZ hS hA hU hW⟩ rfl rfl hl.1 rfl (lv_room (Nat.le_of_ble_eq_true rfl)) dX0_store_91 ⟨(Nat.le_of_ble_eq_true rfl), (Nat.le_of_ble_eq_true rfl)⟩) hP hD hS hA ?_
            clear hP hD hS
            intro u_157 _ H locs hP hD hS
            replace hf := hf u_157
            generalize y_155 u_157 = ζ_156 at hf hP hD ⊢
            clear h_154
            refine g_newT (w := XW d z b ζ_156.1) (tl := ζ_156.2) hx hb hts S.2.2.2.1 hK hP hD hS hA (ci := 16) in_X17 tyX17 tyX17_ok q1394 q1508 q129 rfl (fs := [.int (0 : Int32), .int (0 : Int32), .int (0 : Int32)]) (fun j hj => by rcases (show j = 0 ∨ j = 1 ∨ j = 2 by omega) with rfl | rfl | rfl <;> rfl) (Nat.le_of_ble_eq_true rfl) (Nat.le_of_ble_eq_true rfl) (w1 := fun q => (XW d z b ζ_156.1 ++ [(q, .inr (16, [.int (0 : Int32), .int (0 : Int32), .int (0 : Int32)]))])) (fun _ => rfl) dX0_store_94 ?_
            clear hP hD hS
            intro q_158 H hP hD hS
            replace hf := askU hf q_158
            replace hf := hf (fun _ => 0)
            refine lv_dup hx hb dX0_store_97 rfl ?_
            refine lv_aload_n hx hb dX0_store_98 rfl (lv_at hl 2 rfl) ?_
            refine g_get hx hb hts S.2.2.2.1 hK hP in_X0 0 rfl rfl 8 (by decide) q293 (fun _ h9 => h9) (v := .ref (b 13)) rfl dX0_store_99 ?_
            refine g_getN hx hb hts S.2.2.2.1 hK hP in_X8 13 rfl rfl 0 (by decide) q810 (fun _ h9 => h9) (v := .int (ζ_156.1.1 60)) rfl dX0_store_102 ?_
            refine lv_aload_n hx hb dX0_store_105 rfl (lv_at hl 2 rfl) ?_
            refine g_get hx hb hts S.2.2.2.1 hK hP in_X0 0 rfl rfl 8 (by decide) q293 (fun _ h9 => h9) (v := .ref (b 13)) rfl dX0_store_106 ?_
            refine g_getN hx hb hts S.2.2.2.1 hK hP in_X8 13 rfl rfl 1 (by decide) q812 (fun _ h9 => h9) (v := .int (ζ_156.1.1 61)) rfl dX0_store_109 ?_
            refine lv_aload_n hx hb dX0_store_112 rfl (lv_at hl 2 rfl) ?_
            obtain ⟨ζ_160, h_159, hf⟩ := b1_some hf
            obtain ⟨ζ_161, e_ζ_161⟩ : ∃ x, x = (xmrg ζ_156.1 ζ_160, ζ_156.2) := ⟨_, rfl⟩
            refine run_rS (w := (XW d z b ζ_156.1 ++ [(q_158, .inr (16, [.int (0 : Int32), .int (0 : Int32), .int (0 : Int32)]))])) (tl := ζ_156.2) (wr := [(b 17, .inr (18, [.int (ζ_156.1.1 70), .ref (b 18), .int (ζ_156.1.1 72)])), (b 18, .inl (d 4, 16, .inr (.inr (.inr (.inr (ζ_156.1.2.2.2.2 18)))))), (b 16, .inr (17, [.ref (b 19), .int (ζ_156.1.1 81), .int (ζ_156.1.1 82)])), (b 19, .inl (d 4, 17, .inr (.inr (.inr (.inr (ζ_156.1.2.2.2.2 19)))))), (q_158, .inr (16, [.int (0 : Int32), .int (0 : Int32), .int (0 : Int32)]))]) (w' := fun _ => (XW d z b ζ_161.1 ++ [(q_158, .inr (16, [.int (0 : Int32), .int (0 : Int32), .int (0 : Int32)]))])) (va_runV (As := []) (rest := [.int (ζ_156.1.1 61), .int (ζ_156.1.1 60), .ref q_158, .ref q_158]) S (tX0_here l D d z b (ζ_156.1.2.2.2.2 6 0) K ζ_156.1 ζ_160 h_159 _) (cwV 0 hts (lw_V q1093 q1095 qs30 q94 q1096) rfl rfl rfl (by decide +kernel) ⟨(Nat.le_of_ble_eq_true rfl), (Nat.le_of_ble_eq_true rfl)⟩) ⟨Pw.blind, (va_recv hK.1 hP (ci := 1) (q0 := 0) rfl rfl), fun U hU hW => Pw.cut (w := (XW d z b ζ_156.1 ++ [(q_158, .inr (16, [.int (0 : Int32), .int (0 : Int32), .int (0 : Int32)]))])) (tl := ζ_156.2) hK hP hD hZ hS hA [0, 1, 2, 3, 4, 5, 6, 7, 8, 9, 10, 11, 12, 13, 14, 15] rfl rfl hU hW⟩ rfl rfl hl.1 rfl (lv_room (Nat.le_of_ble_eq_true rfl)) dX0_store_113 ⟨(Nat.le_of_ble_eq_true rfl), (Nat.le_of_ble_eq_true rfl)⟩) hP hD hS hA [0, 1, 2, 3, 4, 5, 6, 7, 8, 9, 10, 11, 12, 13, 14, 15] [16, 17, 18, 19, 20] [5, 6, 7, 8, 9, 10, 11, 12, 13, 14, 15, 16, 17, 18, 19, 20, 0, 1, 2, 3, 4] rfl rfl rfl rfl (by decide) rfl (fun _ => by subst e_ζ_161; rfl) ?_
            clear hP hD hS
            intro _ _ H locs hP hD hS
            rw [show ζ_156.2 = ζ_161.2 from by subst e_ζ_161; rfl] at hP hD
            clear h_159
            replace hf := nm_some hf ζ_161 e_ζ_161
            clear e_ζ_161
            obtain ⟨r_163, ζ_164, h_162, hf⟩ := b2_some hf
            obtain ⟨ζ_165, e_ζ_165⟩ : ∃ x, x = (xmrg ζ_161.1 ζ_164, ζ_161.2) := ⟨_, rfl⟩
            refine run_i (w := (XW d z b ζ_161.1 ++ [(q_158, .inr (16, [.int (0 : Int32), .int (0 : Int32), .int (0 : Int32)]))])) (tl := ζ_161.2) (wr := [(b 17, .inr (18, [.int (ζ_161.1.1 70), .ref (b 18), .int (ζ_161.1.1 72)])), (b 18, .inl (d 4, 16, .inr (.inr (.inr (.inr (ζ_161.1.2.2.2.2 18)))))), (b 16, .inr (17, [.ref (b 19), .int (ζ_161.1.1 81), .int (ζ_161.1.1 82)])), (b 19, .inl (d 4, 17, .inr (.inr (.inr (.inr (ζ_161.1.2.2.2.2 19)))))), (q_158, .inr (16, [.int (0 : Int32), .int (0 : Int32), .int (0 : Int32)]))]) (w' := (XW d z b ζ_165.1 ++ [(q_158, .inr (16, [.int (0 : Int32), .int (0 : Int32), .int (0 : Int32)]))])) (va_runV (As := []) (rest := [.int (ζ_156.1.1 61), .int (ζ_156.1.1 60), .ref q_158, .ref q_158]) S (tX3_swr l D d z b (ζ_161.1.2.2.2.2 6 0) K ζ_161.1 r_163 ζ_164 h_162 _) (cwV 0 hts (lw_V q1119 q1120 q1121 q98 q1122) rfl rfl rfl (by decide +kernel) ⟨(Nat.le_of_ble_eq_true rfl), (Nat.le_of_ble_eq_true rfl)⟩) ⟨Pw.blind, (va_recv hK.1 hP (ci := 4) (q0 := 4) rfl rfl), fun U hU hW => Pw.cut (w := (XW d z b ζ_161.1 ++ [(q_158, .inr (16, [.int (0 : Int32), .int (0 : Int32), .int (0 : Int32)]))])) (tl := ζ_161.2) hK hP hD hZ hS hA [0, 1, 2, 3, 4, 5, 6, 7, 8, 9, 10, 11, 12, 13, 14, 15] rfl rfl hU hW⟩ rfl rfl hl.1 rfl (lv_room (Nat.le_of_ble_eq_true rfl)) dX0_store_116 ⟨(Nat.le_of_ble_eq_true rfl), (Nat.le_of_ble_eq_true rfl)⟩) hP hD hS hA [0, 1, 2, 3, 4, 5, 6, 7, 8, 9, 10, 11, 12, 13, 14, 15] [16, 17, 18, 19, 20] [5, 6, 7, 8, 9, 10, 11, 12, 13, 14, 15, 16, 17, 18, 19, 20, 0, 1, 2, 3, 4] rfl rfl rfl rfl (by decide) rfl (by subst e_ζ_165; rfl) ?_
            clear hP hD hS
            intro H locs hP hD hS
            rw [show ζ_161.2 = ζ_165.2 from by subst e_ζ_165; rfl] at hP hD
            clear h_162
            replace hf := nm_some hf ζ_165 e_ζ_165
            clear e_ζ_165
            obtain ⟨ζ_167, h_166, hf⟩ := b1_some hf
            refine run_v (w := (XW d z b ζ_165.1 ++ [(q_158, .inr (16, [.int (0 : Int32), .int (0 : Int32), .int (0 : Int32)]))])) (tl := ζ_165.2) (wr := [(b 0, .inr (1, [.ref (b 1), .int (ζ_165.1.1 1), .int (ζ_165.1.1 2), .ref (b 2), .ref (b 3), .ref (b 4), va_rf (ζ_165.1.2.2.2.2 6 0), .ref (b 7), .ref (b 13), .ref (b 16), .int (ζ_165.1.1 10)])), (b 1, .inl (d 2, 500, .inl (ζ_165.1.2.2.1 1))), (b 2, .inl (d 5, 2, .inr (.inr (.inr (.inr (fun j => some (z.2.2 j))))))), (b 3, .inl (d 6, 5, .inr (.inr (.inr (.inr (fun j => some (z.2.2 (2 + j)))))))), (b 4, .inr (4, [.int (ζ_165.1.1 20), .long (ζ_165.1.2.1 21), .long (ζ_165.1.2.1 22), .long (ζ_165.1.2.1 23), .ref (b 5), .ref (b 6), .ref (b 0)])), (b 5, .inr (2, [.long (ζ_165.1.2.1 30), .long (ζ_165.1.2.1 31)])), (b 6, .inr (2, [.long (ζ_165.1.2.1 32), .long (ζ_165.1.2.1 33)])), (b 7, .inr (6, [.int (ζ_165.1.1 40), .int (ζ_165.1.1 41), .int (ζ_165.1.1 42), .int (ζ_165.1.1 43), .int (ζ_165.1.1 44), .int (ζ_165.1.1 45), .ref (b 8), .ref (b 9), .ref (b 10), .int (ζ_165.1.1 49), .ref (b 11), .ref (b 12), .int (ζ_165.1.1 52)])), (b 8, .inl (d 0, 16, .inl (ζ_165.1.2.2.1 46))), (b 9, .inl (d 1, 16, .inr (.inl (ζ_165.1.2.2.2.1 47)))), (b 10, .inl (d 1, 16, .inr (.inl (ζ_165.1.2.2.2.1 48)))), (b 11, .inl (d 0, 8, .inl (ζ_165.1.2.2.1 50))), (b 12, .inl (d 0, 8, .inl (ζ_165.1.2.2.1 51))), (b 13, .inr (8, [.int (ζ_165.1.1 60), .int (ζ_165.1.1 61), .int (ζ_165.1.1 62), .int (ζ_165.1.1 63), .ref (b 14), .ref (b 15), .int (ζ_165.1.1 66), .ref (b 17)])), (b 14, .inl (d 0, 100, .inl (ζ_165.1.2.2.1 64))), (b 15, .inl (d 3, 100, .inl (ζ_165.1.2.2.1 65))), (b 17, .inr (18, [.int (ζ_165.1.1 70), .ref (b 18), .int (ζ_165.1.1 72)])), (b 18, .inl (d 4, 16, .inr (.inr (.inr (.inr (ζ_165.1.2.2.2.2 18)))))), (b 16, .inr (17, [.ref (b 19), .int (ζ_165.1.1 81), .int (ζ_165.1.1 82)])), (b 19, .inl (d 4, 17, .inr (.inr (.inr (.inr (ζ_165.1.2.2.2.2 19))))))]) (w' := (XW d z b ζ_165.1 ++ [(q_158, .inr (16, [.int ζ_167.1, .int ζ_167.2.1, .int ζ_167.2.2]))])) (va_runI (As := [.int (ζ_156.1.1 60), .int (ζ_156.1.1 61), .int r_163]) (rest := [.ref q_158]) S (tX17_init l D d z q_158 K (ζ_156.1.1 60) (ζ_156.1.1 61) r_163 ((0 : Int32), (0 : Int32), (0 : Int32)) ζ_167 h_166 _) (cwI 3 hts (lw_meth q1511) rfl rfl rfl (hts _ q129) (hts _ q1509) (hts _ q1510) rfl (by decide +kernel) ⟨(Nat.le_of_ble_eq_true rfl), (Nat.le_of_ble_eq_true rfl)⟩) ⟨Pw.blind, fun U hU hW => Pw.cut (w := (XW d z b ζ_165.1 ++ [(q_158, .inr (16, [.int (0 : Int32), .int (0 : Int32), .int (0 : Int32)]))])) (tl := ζ_165.2) hK hP hD hZ hS hA [20] rfl rfl hU hW⟩ rfl rfl hl.1 rfl (lv_room (Nat.le_of_ble_eq_true rfl)) dX0_store_119 ⟨(Nat.le_of_ble_eq_true rfl), (Nat.le_of_ble_eq_true rfl)⟩) hP hD hS hA [20] [0, 1, 2, 3, 4, 5, 6, 7, 8, 9, 10, 11, 12, 13, 14, 15, 16, 17, 18, 19] [0, 1, 2, 3, 4, 5, 6, 7, 8, 9, 10, 11, 12, 13, 14, 15, 16, 17, 18, 19, 20] rfl rfl rfl rfl (by decide) rfl rfl ?_
            clear hP hD hS
            intro H locs hP hD hS
            clear h_166
            refine lv_astore_n (lv' := [(3, .ref q_158), (2, .int (1 : Int32)), (1, .int r_7), (0, .ref (b 0))]) hx hb dX0_store_122 rfl hl (by decide) rfl (fun ls hl => ?_)
            refine lv_iload_n hx hb dX0_store_123 rfl (lv_at hl 1 rfl) ?_
            refine lv_if_eq (tgt := 143) hx hb dX0_store_124 (by decide) (fun c_168 => ?_) (fun c_168 => ?_)
            · replace hf := it_t hf c_168
              clear c_168
              refine lv_aload_n hx hb dX0_store_143 rfl (lv_at hl 3 rfl) ?_
              refine g_get hx hb hts S.2.2.2.1 hK hP in_X0 0 rfl rfl 8 (by decide) q293 (fun _ h9 => h9) (v := .ref (b 13)) rfl dX0_store_144 ?_
              refine g_getN hx hb hts S.2.2.2.1 hK hP in_X8 13 rfl rfl 7 (by decide) q823 (fun _ h9 => h9) (v := .ref (b 17)) rfl dX0_store_147 ?_
              refine lv_iload_n hx hb dX0_store_150 rfl (lv_at hl 2 rfl) ?_
              refine lv_aload_n hx hb dX0_store_151 rfl (lv_at hl 0 rfl) ?_
              obtain ⟨hes_169, hf⟩ := gaP_some hf
              obtain ⟨ζ_171, h_170, hf⟩ := b1_some hf
              obtain ⟨ζ_172, e_ζ_172⟩ : ∃ x, x = (xP (xI (xI ζ_165.1 70 ζ_171.1) 72 ζ_171.2.1) 18 ζ_171.2.2, ζ_165.2) := ⟨_, rfl⟩
              have hPc := toT_P (isC := [16, 17]) (isR := [0, 1, 2, 3, 4, 5, 6, 7, 8, 9, 10, 11, 12, 13, 14, 15, 18, 19, 20]) (wc := ALP d (b 17) (b 18) (ζ_165.1.1 70, ζ_165.1.1 72, ζ_165.1.2.2.2.2 18)) (wr := [(b 0, .inr (1, [.ref (b 1), .int (ζ_165.1.1 1), .int (ζ_165.1.1 2), .ref (b 2), .ref (b 3), .ref (b 4), va_rf (ζ_165.1.2.2.2.2 6 0), .ref (b 7), .ref (b 13), .ref (b 16), .int (ζ_165.1.1 10)])), (b 1, .inl (d 2, 500, .inl (ζ_165.1.2.2.1 1))), (b 2, .inl (d 5, 2, .inr (.inr (.inr (.inr (fun j => some (z.2.2 j))))))), (b 3, .inl (d 6, 5, .inr (.inr (.inr (.inr (fun j => some (z.2.2 (2 + j)))))))), (b 4, .inr (4, [.int (ζ_165.1.1 20), .long (ζ_165.1.2.1 21), .long (ζ_165.1.2.1 22), .long (ζ_165.1.2.1 23), .ref (b 5), .ref (b 6), .ref (b 0)])), (b 5, .inr (2, [.long (ζ_165.1.2.1 30), .long (ζ_165.1.2.1 31)])), (b 6, .inr (2, [.long (ζ_165.1.2.1 32), .long (ζ_165.1.2.1 33)])), (b 7, .inr (6, [.int (ζ_165.1.1 40), .int (ζ_165.1.1 41), .int (ζ_165.1.1 42), .int (ζ_165.1.1 43), .int (ζ_165.1.1 44), .int (ζ_165.1.1 45), .ref (b 8), .ref (b 9), .ref (b 10), .int (ζ_165.1.1 49), .ref (b 11), .ref (b 12), .int (ζ_165.1.1 52)])), (b 8, .inl (d 0, 16, .inl (ζ_165.1.2.2.1 46))), (b 9, .inl (d 1, 16, .inr (.inl (ζ_165.1.2.2.2.1 47)))), (b 10, .inl (d 1, 16, .inr (.inl (ζ_165.1.2.2.2.1 48)))), (b 11, .inl (d 0, 8, .inl (ζ_165.1.2.2.1 50))), (b 12, .inl (d 0, 8, .inl (ζ_165.1.2.2.1 51))), (b 13, .inr (8, [.int (ζ_165.1.1 60), .int (ζ_165.1.1 61), .int (ζ_165.1.1 62), .int (ζ_165.1.1 63), .ref (b 14), .ref (b 15), .int (ζ_165.1.1 66), .ref (b 17)])), (b 14, .inl (d 0, 100, .inl (ζ_165.1.2.2.1 64))), (b 15, .inl (d 3, 100, .inl (ζ_165.1.2.2.1 65))), (b 16, .inr (17, [.ref (b 19), .int (ζ_165.1.1 81), .int (ζ_165.1.1 82)])), (b 19, .inl (d 4, 17, .inr (.inr (.inr (.inr (ζ_165.1.2.2.2.2 19)))))), (q_158, .inr (16, [.int ζ_167.1, .int ζ_167.2.1, .int ζ_167.2.2]))]) (w := (XW d z b ζ_165.1 ++ [(q_158, .inr (16, [.int ζ_167.1, .int ζ_167.2.1, .int ζ_167.2.2]))])) (tl := ζ_165.2) hP rfl rfl
              have hDc := toT_D (isC := [16, 17]) (isR := [0, 1, 2, 3, 4, 5, 6, 7, 8, 9, 10, 11, 12, 13, 14, 15, 18, 19, 20]) (wc := ALP d (b 17) (b 18) (ζ_165.1.1 70, ζ_165.1.1 72, ζ_165.1.2.2.2.2 18)) (wr := [(b 0, .inr (1, [.ref (b 1), .int (ζ_165.1.1 1), .int (ζ_165.1.1 2), .ref (b 2), .ref (b 3), .ref (b 4), va_rf (ζ_165.1.2.2.2.2 6 0), .ref (b 7), .ref (b 13), .ref (b 16), .int (ζ_165.1.1 10)])), (b 1, .inl (d 2, 500, .inl (ζ_165.1.2.2.1 1))), (b 2, .inl (d 5, 2, .inr (.inr (.inr (.inr (fun j => some (z.2.2 j))))))), (b 3, .inl (d 6, 5, .inr (.inr (.inr (.inr (fun j => some (z.2.2 (2 + j)))))))), (b 4, .inr (4, [.int (ζ_165.1.1 20), .long (ζ_165.1.2.1 21), .long (ζ_165.1.2.1 22), .long (ζ_165.1.2.1 23), .ref (b 5), .ref (b 6), .ref (b 0)])), (b 5, .inr (2, [.long (ζ_165.1.2.1 30), .long (ζ_165.1.2.1 31)])), (b 6, .inr (2, [.long (ζ_165.1.2.1 32), .long (ζ_165.1.2.1 33)])), (b 7, .inr (6, [.int (ζ_165.1.1 40), .int (ζ_165.1.1 41), .int (ζ_165.1.1 42), .int (ζ_165.1.1 43), .int (ζ_165.1.1 44), .int (ζ_165.1.1 45), .ref (b 8), .ref (b 9), .ref (b 10), .int (ζ_165.1.1 49), .ref (b 11), .ref (b 12), .int (ζ_165.1.1 52)])), (b 8, .inl (d 0, 16, .inl (ζ_165.1.2.2.1 46))), (b 9, .inl (d 1, 16, .inr (.inl (ζ_165.1.2.2.2.1 47)))), (b 10, .inl (d 1, 16, .inr (.inl (ζ_165.1.2.2.2.1 48)))), (b 11, .inl (d 0, 8, .inl (ζ_165.1.2.2.1 50))), (b 12, .inl (d 0, 8, .inl (ζ_165.1.2.2.1 51))), (b 13, .inr (8, [.int (ζ_165.1.1 60), .int (ζ_165.1.1 61), .int (ζ_165.1.1 62), .int (ζ_165.1.1 63), .ref (b 14), .ref (b 15), .int (ζ_165.1.1 66), .ref (b 17)])), (b 14, .inl (d 0, 100, .inl (ζ_165.1.2.2.1 64))), (b 15, .inl (d 3, 100, .inl (ζ_165.1.2.2.1 65))), (b 16, .inr (17, [.ref (b 19), .int (ζ_165.1.1 81), .int (ζ_165.1.1 82)])), (b 19, .inl (d 4, 17, .inr (.inr (.inr (.inr (ζ_165.1.2.2.2.2 19)))))), (q_158, .inr (16, [.int ζ_167.1, .int ζ_167.2.1, .int ζ_167.2.2]))]) (w := (XW d z b ζ_165.1 ++ [(q_158, .inr (16, [.int ζ_167.1, .int ζ_167.2.1, .int ζ_167.2.2]))])) (tl := ζ_165.2) hD rfl rfl rfl
              refine runW_v (va_runV (As := [.int r_7, .ref q_158]) (rest := []) S (tJ14_add_3 l D d z (b 17) (b 18) ([(b 0, .inr (1, [.ref (b 1), .int (ζ_165.1.1 1), .int (ζ_165.1.1 2), .ref (b 2), .ref (b 3), .ref (b 4), va_rf (ζ_165.1.2.2.2.2 6 0), .ref (b 7), .ref (b 13), .ref (b 16), .int (ζ_165.1.1 10)])), (b 1, .inl (d 2, 500, .inl (ζ_165.1.2.2.1 1))), (b 2, .inl (d 5, 2, .inr (.inr (.inr (.inr (fun j => some (z.2.2 j))))))), (b 3, .inl (d 6, 5, .inr (.inr (.inr (.inr (fun j => some (z.2.2 (2 + j)))))))), (b 4, .inr (4, [.int (ζ_165.1.1 20), .long (ζ_165.1.2.1 21), .long (ζ_165.1.2.1 22), .long (ζ_165.1.2.1 23), .ref (b 5), .ref (b 6), .ref (b 0)])), (b 5, .inr (2, [.long (ζ_165.1.2.1 30), .long (ζ_165.1.2.1 31)])), (b 6, .inr (2, [.long (ζ_165.1.2.1 32), .long (ζ_165.1.2.1 33)])), (b 7, .inr (6, [.int (ζ_165.1.1 40), .int (ζ_165.1.1 41), .int (ζ_165.1.1 42), .int (ζ_165.1.1 43), .int (ζ_165.1.1 44), .int (ζ_165.1.1 45), .ref (b 8), .ref (b 9), .ref (b 10), .int (ζ_165.1.1 49), .ref (b 11), .ref (b 12), .int (ζ_165.1.1 52)])), (b 8, .inl (d 0, 16, .inl (ζ_165.1.2.2.1 46))), (b 9, .inl (d 1, 16, .inr (.inl (ζ_165.1.2.2.2.1 47)))), (b 10, .inl (d 1, 16, .inr (.inl (ζ_165.1.2.2.2.1 48)))), (b 11, .inl (d 0, 8, .inl (ζ_165.1.2.2.1 50))), (b 12, .inl (d 0, 8, .inl (ζ_165.1.2.2.1 51))), (b 13, .inr (8, [.int (ζ_165.1.1 60), .int (ζ_165.1.1 61), .int (ζ_165.1.1 62), .int (ζ_165.1.1 63), .ref (b 14), .ref (b 15), .int (ζ_165.1.1 66), .ref (b 17)])), (b 14, .inl (d 0, 100, .inl (ζ_165.1.2.2.1 64))), (b 15, .inl (d 3, 100, .inl (ζ_165.1.2.2.1 65))), (b 16, .inr (17, [.ref (b 19), .int (ζ_165.1.1 81), .int (ζ_165.1.1 82)])), (b 19, .inl (d 4, 17, .inr (.inr (.inr (.inr (ζ_165.1.2.2.2.2 19)))))), (q_158, .inr (16, [.int ζ_167.1, .int ζ_167.2.1, .int ζ_167.2.2]))] ++ ζ_165.2) K r_7 q_158 (ζ_165.1.1 70, ζ_165.1.1 72, ζ_165.1.2.2.2.2 18) ζ_171 h_170 ⟨_, List.mem_append_left _ (List.mem_of_getElem? (i := 18) rfl)⟩ (fun j q hq => (hes_169 j q hq).imp fun _ h => List.mem_append_right _ h) _) (cwV 2 hts (lw_V q1530 q1531 q1532 q118 q1533) rfl rfl rfl (by decide +kernel) ⟨(Nat.le_of_ble_eq_true rfl), (Nat.le_of_ble_eq_true rfl)⟩) ⟨Pw.blind, (va_recv hK.1 hP (ci := 18) (q0 := 16) rfl rfl), fun U hU hW => Pw.at hK hPc hDc hZ hS hA hU hW⟩ rfl rfl hl.1 rfl (lv_room (Nat.le_of_ble_eq_true rfl)) dX0_store_152 ⟨(Nat.le_of_ble_eq_true rfl), (Nat.le_of_ble_eq_true rfl)⟩) hPc hDc hS hA ?_
              clear hP hD hS hPc hDc
              intro H locs hP hD hS
              replace hP := ofT_P (perm := [2, 3, 4, 5, 6, 7, 8, 9, 10, 11, 12, 13, 14, 15, 16, 17, 0, 1, 18, 19, 20]) (w' := (XW d z b ζ_172.1 ++ [(q_158, .inr (16, [.int ζ_167.1, .int ζ_167.2.1, .int ζ_167.2.2]))])) hP (by subst e_ζ_172; rfl)
              replace hD := ofT_D (perm := [2, 3, 4, 5, 6, 7, 8, 9, 10, 11, 12, 13, 14, 15, 16, 17, 0, 1, 18, 19, 20]) (w' := (XW d z b ζ_172.1 ++ [(q_158, .inr (16, [.int ζ_167.1, .int ζ_167.2.1, .int ζ_167.2.2]))])) hD rfl (by subst e_ζ_172; rfl)
              rw [show ζ_165.2 = ζ_172.2 from by subst e_ζ_172; rfl] at hP hD
              clear h_170
              replace hf := nm_some hf ζ_172 e_ζ_172
              clear e_ζ_172
              refine lv_iload_n hx hb dX0_store_155 rfl (lv_at hl 2 rfl) ?_
              refine W.widen (k := 6) (n := 230) (Nat.le_of_ble_eq_true rfl) (Nat.le_of_ble_eq_true rfl) ?_
              obtain ⟨ζ_173, e_ζ_173⟩ : ∃ x, x = (ζ_172.1, [(q_158, .inr (16, [.int ζ_167.1, .int ζ_167.2.1, .int ζ_167.2.2]))] ++ ζ_172.2) := ⟨_, rfl⟩
              replace hf := nm_some hf ζ_173 e_ζ_173
              replace hP := kp_P (w := XW d z b ζ_172.1) (ks := [(q_158, .inr (16, [.int ζ_167.1, .int ζ_167.2.1, .int ζ_167.2.2]))]) (w' := XW d z b ζ_173.1) (t2 := ζ_173.2) hP (by subst e_ζ_173; rfl) (by subst e_ζ_173; rfl)
              replace hD := kp_D (w := XW d z b ζ_172.1) (ks := [(q_158, .inr (16, [.int ζ_167.1, .int ζ_167.2.1, .int ζ_167.2.2]))]) (w' := XW d z b ζ_173.1) (t2 := ζ_173.2) hD (by subst e_ζ_173; rfl) (by subst e_ζ_173; rfl)
              clear e_ζ_173
              exact hret _ _ _ _ _ _ _ hf dX0_store_156 hP hD hS
            · replace hf := it_f hf c_168
              clear c_168
              refine lv_aload_n hx hb dX0_store_127 rfl (lv_at hl 3 rfl) ?_
              refine g_get hx hb hts S.2.2.2.1 hK hP in_X0 0 rfl rfl 8 (by decide) q293 (fun _ h9 => h9) (v := .ref (b 13)) rfl dX0_store_128 ?_
              refine g_getN hx hb hts S.2.2.2.1 hK hP in_X8 13 rfl rfl 7 (by decide) q823 (fun _ h9 => h9) (v := .ref (b 17)) rfl dX0_store_131 ?_
              refine lv_iload_n hx hb dX0_store_134 rfl (lv_at hl 2 rfl) ?_
              refine lv_aload_n hx hb dX0_store_135 rfl (lv_at hl 0 rfl) ?_
              obtain ⟨r_175, ζ_176, h_174, hf⟩ := b2_some hf
              obtain ⟨ζ_177, e_ζ_177⟩ : ∃ x, x = (xP (xI (xI ζ_165.1 70 ζ_176.1) 72 ζ_176.2.1) 18 ζ_176.2.2, ζ_165.2) := ⟨_, rfl⟩
              have hPc := toT_P (isC := [16, 17]) (isR := [0, 1, 2, 3, 4, 5, 6, 7, 8, 9, 10, 11, 12, 13, 14, 15, 18, 19, 20]) (wc := ALP d (b 17) (b 18) (ζ_165.1.1 70, ζ_165.1.1 72, ζ_165.1.2.2.2.2 18)) (wr := [(b 0, .inr (1, [.ref (b 1), .int (ζ_165.1.1 1), .int (ζ_165.1.1 2), .ref (b 2), .ref (b 3), .ref (b 4), va_rf (ζ_165.1.2.2.2.2 6 0), .ref (b 7), .ref (b 13), .ref (b 16), .int (ζ_165.1.1 10)])), (b 1, .inl (d 2, 500, .inl (ζ_165.1.2.2.1 1))), (b 2, .inl (d 5, 2, .inr (.inr (.inr (.inr (fun j => some (z.2.2 j))))))), (b 3, .inl (d 6, 5, .inr (.inr (.inr (.inr (fun j => some (z.2.2 (2 + j)))))))), (b 4, .inr (4, [.int (ζ_165.1.1 20), .long (ζ_165.1.2.1 21), .long (ζ_165.1.2.1 22), .long (ζ_165.1.2.1 23), .ref (b 5), .ref (b 6), .ref (b 0)])), (b 5, .inr (2, [.long (ζ_165.1.2.1 30), .long (ζ_165.1.2.1 31)])), (b 6, .inr (2, [.long (ζ_165.1.2.1 32), .long (ζ_165.1.2.1 33)])), (b 7, .inr (6, [.int (ζ_165.1.1 40), .int (ζ_165.1.1 41), .int (ζ_165.1.1 42), .int (ζ_165.1.1 43), .int (ζ_165.1.1 44), .int (ζ_165.1.1 45), .ref (b 8), .ref (b 9), .ref (b 10), .int (ζ_165.1.1 49), .ref (b 11), .ref (b 12), .int (ζ_165.1.1 52)])), (b 8, .inl (d 0, 16, .inl (ζ_165.1.2.2.1 46))), (b 9, .inl (d 1, 16, .inr (.inl (ζ_165.1.2.2.2.1 47)))), (b 10, .inl (d 1, 16, .inr (.inl (ζ_165.1.2.2.2.1 48)))), (b 11, .inl (d 0, 8, .inl (ζ_165.1.2.2.1 50))), (b 12, .inl (d 0, 8, .inl (ζ_165.1.2.2.1 51))), (b 13, .inr (8, [.int (ζ_165.1.1 60), .int (ζ_165.1.1 61), .int (ζ_165.1.1 62), .int (ζ_165.1.1 63), .ref (b 14), .ref (b 15), .int (ζ_165.1.1 66), .ref (b 17)])), (b 14, .inl (d 0, 100, .inl (ζ_165.1.2.2.1 64))), (b 15, .inl (d 3, 100, .inl (ζ_165.1.2.2.1 65))), (b 16, .inr (17, [.ref (b 19), .int (ζ_165.1.1 81), .int (ζ_165.1.1 82)])), (b 19, .inl (d 4, 17, .inr (.inr (.inr (.inr (ζ_165.1.2.2.2.2 19)))))), (q_158, .inr (16, [.int ζ_167.1, .int ζ_167.2.1, .int ζ_167.2.2]))]) (w := (XW d z b ζ_165.1 ++ [(q_158, .inr (16, [.int ζ_167.1, .int ζ_167.2.1, .int ζ_167.2.2]))])) (tl := ζ_165.2) hP rfl rfl
              have hDc := toT_D (isC := [16, 17]) (isR := [0, 1, 2, 3, 4, 5, 6, 7, 8, 9, 10, 11, 12, 13, 14, 15, 18, 19, 20]) (wc := ALP d (b 17) (b 18) (ζ_165.1.1 70, ζ_165.1.1 72, ζ_165.1.2.2.2.2 18)) (wr := [(b 0, .inr (1, [.ref (b 1), .int (ζ_165.1.1 1), .int (ζ_165.1.1 2), .ref (b 2), .ref (b 3), .ref (b 4), va_rf (ζ_165.1.2.2.2.2 6 0), .ref (b 7), .ref (b 13), .ref (b 16), .int (ζ_165.1.1 10)])), (b 1, .inl (d 2, 500, .inl (ζ_165.1.2.2.1 1))), (b 2, .inl (d 5, 2, .inr (.inr (.inr (.inr (fun j => some (z.2.2 j))))))), (b 3, .inl (d 6, 5, .inr (.inr (.inr (.inr (fun j => some (z.2.2 (2 + j)))))))), (b 4, .inr (4, [.int (ζ_165.1.1 20), .long (ζ_165.1.2.1 21), .long (ζ_165.1.2.1 22), .long (ζ_165.1.2.1 23), .ref (b 5), .ref (b 6), .ref (b 0)])), (b 5, .inr (2, [.long (ζ_165.1.2.1 30), .long (ζ_165.1.2.1 31)])), (b 6, .inr (2, [.long (ζ_165.1.2.1 32), .long (ζ_165.1.2.1 33)])), (b 7, .inr (6, [.int (ζ_165.1.1 40), .int (ζ_165.1.1 41), .int (ζ_165.1.1 42), .int (ζ_165.1.1 43), .int (ζ_165.1.1 44), .int (ζ_165.1.1 45), .ref (b 8), .ref (b 9), .ref (b 10), .int (ζ_165.1.1 49), .ref (b 11), .ref (b 12), .int (ζ_165.1.1 52)])), (b 8, .inl (d 0, 16, .inl (ζ_165.1.2.2.1 46))), (b 9, .inl (d 1, 16, .inr (.inl (ζ_165.1.2.2.2.1 47)))), (b 10, .inl (d 1, 16, .inr (.inl (ζ_165.1.2.2.2.1 48)))), (b 11, .inl (d 0, 8, .inl (ζ_165.1.2.2.1 50))), (b 12, .inl (d 0, 8, .inl (ζ_165.1.2.2.1 51))), (b 13, .inr (8, [.int (ζ_165.1.1 60), .int (ζ_165.1.1 61), .int (ζ_165.1.1 62), .int (ζ_165.1.1 63), .ref (b 14), .ref (b 15), .int (ζ_165.1.1 66), .ref (b 17)])), (b 14, .inl (d 0, 100, .inl (ζ_165.1.2.2.1 64))), (b 15, .inl (d 3, 100, .inl (ζ_165.1.2.2.1 65))), (b 16, .inr (17, [.ref (b 19), .int (ζ_165.1.1 81), .int (ζ_165.1.1 82)])), (b 19, .inl (d 4, 17, .inr (.inr (.inr (.inr (ζ_165.1.2.2.2.2 19)))))), (q_158, .inr (16, [.int ζ_167.1, .int ζ_167.2.1, .int ζ_167.2.2]))]) (w := (XW d z b ζ_165.1 ++ [(q_158, .inr (16, [.int ζ_167.1, .int ζ_167.2.1, .int ζ_167.2.2]))])) (tl := ζ_165.2) hD rfl rfl rfl
              refine runW_rS (va_runV (As := [.int r_7, .ref q_158]) (rest := []) S (tJ14_set l D d z (b 17) (b 18) ([(b 0, .inr (1, [.ref (b 1), .int (ζ_165.1.1 1), .int (ζ_165.1.1 2), .ref (b 2), .ref (b 3), .ref (b 4), va_rf (ζ_165.1.2.2.2.2 6 0), .ref (b 7), .ref (b 13), .ref (b 16), .int (ζ_165.1.1 10)])), (b 1, .inl (d 2, 500, .inl (ζ_165.1.2.2.1 1))), (b 2, .inl (d 5, 2, .inr (.inr (.inr (.inr (fun j => some (z.2.2 j))))))), (b 3, .inl (d 6, 5, .inr (.inr (.inr (.inr (fun j => some (z.2.2 (2 + j)))))))), (b 4, .inr (4, [.int (ζ_165.1.1 20), .long (ζ_165.1.2.1 21), .long (ζ_165.1.2.1 22), .long (ζ_165.1.2.1 23), .ref (b 5), .ref (b 6), .ref (b 0)])), (b 5, .inr (2, [.long (ζ_165.1.2.1 30), .long (ζ_165.1.2.1 31)])), (b 6, .inr (2, [.long (ζ_165.1.2.1 32), .long (ζ_165.1.2.1 33)])), (b 7, .inr (6, [.int (ζ_165.1.1 40), .int (ζ_165.1.1 41), .int (ζ_165.1.1 42), .int (ζ_165.1.1 43), .int (ζ_165.1.1 44), .int (ζ_165.1.1 45), .ref (b 8), .ref (b 9), .ref (b 10), .int (ζ_165.1.1 49), .ref (b 11), .ref (b 12), .int (ζ_165.1.1 52)])), (b 8, .inl (d 0, 16, .inl (ζ_165.1.2.2.1 46))), (b 9, .inl (d 1, 16, .inr (.inl (ζ_165.1.2.2.2.1 47)))), (b 10, .inl (d 1, 16, .inr (.inl (ζ_165.1.2.2.2.1 48)))), (b 11, .inl (d 0, 8, .inl (ζ_165.1.2.2.1 50))), (b 12, .inl (d 0, 8, .inl (ζ_165.1.2.2.1 51))), (b 13, .inr (8, [.int (ζ_165.1.1 60), .int (ζ_165.1.1 61), .int (ζ_165.1.1 62), .int (ζ_165.1.1 63), .ref (b 14), .ref (b 15), .int (ζ_165.1.1 66), .ref (b 17)])), (b 14, .inl (d 0, 100, .inl (ζ_165.1.2.2.1 64))), (b 15, .inl (d 3, 100, .inl (ζ_165.1.2.2.1 65))), (b 16, .inr (17, [.ref (b 19), .int (ζ_165.1.1 81), .int (ζ_165.1.1 82)])), (b 19, .inl (d 4, 17, .inr (.inr (.inr (.inr (ζ_165.1.2.2.2.2 19)))))), (q_158, .inr (16, [.int ζ_167.1, .int ζ_167.2.1, .int ζ_167.2.2]))] ++ ζ_165.2) K r_7 q_158 (ζ_165.1.1 70, ζ_165.1.1 72, ζ_165.1.2.2.2.2 18) r_175 ζ_176 h_174 ⟨_, List.mem_append_left _ (List.mem_of_getElem? (i := 18) rfl)⟩ _) (cwV 2 hts (lw_V q1526 q1527 q1528 q118 q1529) rfl rfl rfl (by decide +kernel) ⟨(Nat.le_of_ble_eq_true rfl), (Nat.le_of_ble_eq_true rfl)⟩) ⟨Pw.blind, (va_recv hK.1 hP (ci := 18) (q0 := 16) rfl rfl), fun U hU hW => Pw.at hK hPc hDc hZ hS hA hU hW⟩ rfl rfl hl.1 rfl (lv_room (Nat.le_of_ble_eq_true rfl)) dX0_store_136 ⟨(Nat.le_of_ble_eq_true rfl), (Nat.le_of_ble_eq_true rfl)⟩) hPc hDc hS hA ?_
              clear hP hD hS hPc hDc
              intro _ _ H locs hP hD hS
              replace hP := ofT_P (perm := [2, 3, 4, 5, 6, 7, 8, 9, 10, 11, 12, 13, 14, 15, 16, 17, 0, 1, 18, 19, 20]) (w' := (XW d z b ζ_177.1 ++ [(q_158, .inr (16, [.int ζ_167.1, .int ζ_167.2.1, .int ζ_167.2.2]))])) hP (by subst e_ζ_177; rfl)
              replace hD := ofT_D (perm := [2, 3, 4, 5, 6, 7, 8, 9, 10, 11, 12, 13, 14, 15, 16, 17, 0, 1, 18, 19, 20]) (w' := (XW d z b ζ_177.1 ++ [(q_158, .inr (16, [.int ζ_167.1, .int ζ_167.2.1, .int ζ_167.2.2]))])) hD rfl (by subst e_ζ_177; rfl)
              rw [show ζ_165.2 = ζ_177.2 from by subst e_ζ_177; rfl] at hP hD
              clear h_174
              replace hf := nm_some hf ζ_177 e_ζ_177
              clear e_ζ_177
              refine lv_pop hx hb dX0_store_139 rfl ?_
              refine lv_goto (tgt := 155) hx hb dX0_store_140 (by decide) ?_
              refine lv_iload_n hx hb dX0_store_155 rfl (lv_at hl 2 rfl) ?_
              refine W.widen (k := 6) (n := 230) (Nat.le_of_ble_eq_true rfl) (Nat.le_of_ble_eq_true rfl) ?_
              obtain ⟨ζ_178, e_ζ_178⟩ : ∃ x, x = (ζ_177.1, [(q_158, .inr (16, [.int ζ_167.1, .int ζ_167.2.1, .int ζ_167.2.2]))] ++ ζ_177.2) := ⟨_, rfl⟩
              replace hf := nm_some hf ζ_178 e_ζ_178
              replace hP := kp_P (w := XW d z b ζ_177.1) (ks := [(q_158, .inr (16, [.int ζ_167.1, .int ζ_167.2.1, .int ζ_167.2.2]))]) (w' := XW d z b ζ_178.1) (t2 := ζ_178.2) hP (by subst e_ζ_178; rfl) (by subst e_ζ_178; rfl)
              replace hD := kp_D (w := XW d z b ζ_177.1) (ks := [(q_158, .inr (16, [.int ζ_167.1, .int ζ_167.2.1, .int ζ_167.2.2]))]) (w' := XW d z b ζ_178.1) (t2 := ζ_178.2) hD (by subst e_ζ_178; rfl) (by subst e_ζ_178; rfl)
              clear e_ζ_178
              exact hret _ _ _ _ _ _ _ hf dX0_store_156 hP hD hS
          · replace hf := itU_t hf c_153
            clear c_153
            replace hf := hf (fun _ => 0)
            refine lv_bipush (v := -2) hx hb dX0_store_87 (by decide) ?_
            refine W.widen (k := 6) (n := 230) (Nat.le_of_ble_eq_true rfl) (Nat.le_of_ble_eq_true rfl) ?_
            exact hret _ _ _ _ _ _ _ hf dX0_store_89 hP hD hS
  · replace hf := itU_f hf (bi_e0 c_5)
    clear c_5
    replace hf := hf (fun _ => 0)
    refine lv_iconst (v := -1) hx hb dX0_store_7 (by decide) ?_
    refine W.widen (k := 6) (n := 230) (Nat.le_of_ble_eq_true rfl) (Nat.le_of_ble_eq_true rfl) ?_
    exact hret _ _ _ _ _ _ _ hf dX0_store_8 hP hD hS
noncomputable def fX0_forget (K : Nat) (d : Nat → ClassId) (p0 : Int32) (u : UU) (μ : XT) : Option (Int32 × XT) :=
  b2 (fX0_isEntry K p0 μ) fun r_2 ζ_3 =>
  if r_2 = true then
    b1u u (fun u => fX0_remember K d u ζ_3) fun ζ_7 u =>
    gaP (∀ j q, ζ_7.1.2.2.2.2 18 j = some q → ∃ fs, (q, (.inr (16, fs) : va_E)) ∈ ζ_7.2) <|
    b2 (fJ14_remove K p0 (ζ_7.1.1 70, ζ_7.1.1 72, ζ_7.1.2.2.2.2 18)) fun r_11 ζ_12 =>
    nm ((xP (xI (xI ζ_7.1 70 ζ_12.1) 72 ζ_12.2.1) 18 ζ_12.2.2, ζ_7.2)) fun ζ_13 =>
    b1 (fJ14_size K (ζ_13.1.1 70, ζ_13.1.1 72, ζ_13.1.2.2.2.2 18)) fun r_15 =>
    some (r_15, ζ_13)
  else
    some ((-1 : Int32), ζ_3)
set_option maxHeartbeats 4000000 in
set_option maxRecDepth 100000 in
theorem tX0_forget (l : Launch) (D : va_G) (d : Nat → ClassId) (z : ZT) (b : Nat → Nat) (K : Nat) (p0 : Int32) (μ : XT) (y : UU → (Int32 × XT)) (hf : ∀ u, fX0_forget K d p0 u μ = some (y u)) : CIS l yX0_forget (ws_ yX0_forget cX0_forget 2 (Option.some Jvm.ClassFile.FieldType.int)) (rmc 6 5 227 115) D d z [.ref (b 0), .int p0] (XW d z b μ.1 ++ μ.2) (fun u : UU => (y u).1) (fun u : UU => XW d z b (y u).2.1 ++ (y u).2.2) (fun _ => True) := by
  refine CIS.of (own := RX0) rfl (by decide) (Nat.le_of_ble_eq_true rfl) (fun _ => rfl) ?_
  intro p e s m args below meth c A Q ls S hin hK hP hD hZ hS hA hl hret0
  have hret : ∀ (U0 : UU) (x : Int32) (μx : XT) (H : Heap) (locs : List Loc) (pc : Nat) (ls' : Array Slot), some (x, μx) = some (y U0) → decode cX0_forget pc = .ok (.ireturn, 1) → va_P D CL (XW d z b μx.1 ++ μx.2) H → va_D A (XW d z b μx.1 ++ μx.2) → va_S A s.heap H locs → W p l e (rmc 6 5 227 115) s m args below meth c H locs 5 227 Q (F0 m pc ls' [.int x]) := by
    intro U0 x μx H locs pc ls' h9 hdg hP hD hS
    have h8 := hret0 U0 trivial H locs pc ls' hdg
    rw [← Option.some.inj h9] at h8
    exact h8 hP hD hS
  have hx := S.1
  have hb := S.2.1
  have hts := S.2.2.2.2
  have hl : lv_has ls 2 [(0, .ref (b 0)), (1, .int p0)] := hl
  unfold fX0_forget at hf
  refine lv_aload_n hx hb dX0_forget_0 rfl (lv_at hl 0 rfl) ?_
  refine lv_iload_n hx hb dX0_forget_1 rfl (lv_at hl 1 rfl) ?_
  obtain ⟨r_2, ζ_3, h_1, hf⟩ := b2U hf
  refine runW_i (va_runV (As := [.int p0]) (rest := []) S (tX0_isEntry l D d z b K p0 μ r_2 ζ_3 h_1 _) (cwV 1 hts (lw_V q1547 q1549 qs47 q94 q1550) rfl rfl rfl (by decide +kernel) ⟨(Nat.le_of_ble_eq_true rfl), (Nat.le_of_ble_eq_true rfl)⟩) ⟨Pw.blind, (va_recv hK.1 hP (ci := 1) (q0 := 0) rfl rfl), fun U hU hW => Pw.at hK hP hD hZ hS hA hU hW⟩ rfl rfl hl.1 rfl (lv_room (Nat.le_of_ble_eq_true rfl)) dX0_forget_2 ⟨(Nat.le_of_ble_eq_true rfl), (Nat.le_of_ble_eq_true rfl)⟩) hP hD hS hA ?_
  clear hP hD hS
  intro H locs hP hD hS
  clear h_1
  refine lv_if_ne (tgt := 10) hx hb dX0_forget_5 (by decide) (fun c_4 => ?_) (fun c_4 => ?_)
  · replace hf := itU_t hf (bi_n0 c_4)
    clear c_4
    refine lv_aload_n hx hb dX0_forget_10 rfl (lv_at hl 0 rfl) ?_
    obtain ⟨y_6, h_5, hf⟩ := b1u_some hf
    refine runW_vS (va_runV (As := []) (rest := []) S (tX0_remember l D d z b K ζ_3 y_6 h_5 _) (cwV 0 hts (lw_V q899 q901 qs20 q94 q902) rfl rfl rfl (by decide +kernel) ⟨(Nat.le_of_ble_eq_true rfl), (Nat.le_of_ble_eq_true rfl)⟩) ⟨Pw.blind, (va_recv hK.1 hP (ci := 1) (q0 := 0) rfl rfl), fun U hU hW => Pw.at hK hP hD hZ hS hA hU hW⟩ rfl rfl hl.1 rfl (lv_room (Nat.le_of_ble_eq_true rfl)) dX0_forget_11 ⟨(Nat.le_of_ble_eq_true rfl), (Nat.le_of_ble_eq_true rfl)⟩) hP hD hS hA ?_
    clear hP hD hS
    intro u_8 _ H locs hP hD hS
    replace hf := hf u_8
    generalize y_6 u_8 = ζ_7 at hf hP hD ⊢
    clear h_5
    replace hf := hf (fun _ => 0)
    refine lv_aload_n hx hb dX0_forget_14 rfl (lv_at hl 0 rfl) ?_
    refine g_get hx hb hts S.2.2.2.1 hK hP in_X0 0 rfl rfl 8 (by decide) q293 (fun _ h9 => h9) (v := .ref (b 13)) rfl dX0_forget_15 ?_
    refine g_getN hx hb hts S.2.2.2.1 hK hP in_X8 13 rfl rfl 7 (by decide) q823 (fun _ h9 => h9) (v := .ref (b 17)) rfl dX0_forget_18 ?_
    refine lv_iload_n hx hb dX0_forget_21 rfl (lv_at hl 1 rfl) ?_
    obtain ⟨hes_9, hf⟩ := gaP_some hf
    obtain ⟨r_11, ζ_12, h_10, hf⟩ := b2_some hf
    obtain ⟨ζ_13, e_ζ_13⟩ : ∃ x, x = (xP (xI (xI ζ_7.1 70 ζ_12.1) 72 ζ_12.2.1) 18 ζ_12.2.2, ζ_7.2) := ⟨_, rfl⟩
    have hPc := toT_P (isC := [16, 17]) (isR := [0, 1, 2, 3, 4, 5, 6, 7, 8, 9, 10, 11, 12, 13, 14, 15, 18, 19]) (wc := ALP d (b 17) (b 18) (ζ_7.1.1 70, ζ_7.1.1 72, ζ_7.1.2.2.2.2 18)) (wr := [(b 0, .inr (1, [.ref (b 1), .int (ζ_7.1.1 1), .int (ζ_7.1.1 2), .ref (b 2), .ref (b 3), .ref (b 4), va_rf (ζ_7.1.2.2.2.2 6 0), .ref (b 7), .ref (b 13), .ref (b 16), .int (ζ_7.1.1 10)])), (b 1, .inl (d 2, 500, .inl (ζ_7.1.2.2.1 1))), (b 2, .inl (d 5, 2, .inr (.inr (.inr (.inr (fun j => some (z.2.2 j))))))), (b 3, .inl (d 6, 5, .inr (.inr (.inr (.inr (fun j => some (z.2.2 (2 + j)))))))), (b 4, .inr (4, [.int (ζ_7.1.1 20), .long (ζ_7.1.2.1 21), .long (ζ_7.1.2.1 22), .long (ζ_7.1.2.1 23), .ref (b 5), .ref (b 6), .ref (b 0)])), (b 5, .inr (2, [.long (ζ_7.1.2.1 30), .long (ζ_7.1.2.1 31)])), (b 6, .inr (2, [.long (ζ_7.1.2.1 32), .long (ζ_7.1.2.1 33)])), (b 7, .inr (6, [.int (ζ_7.1.1 40), .int (ζ_7.1.1 41), .int (ζ_7.1.1 42), .int (ζ_7.1.1 43), .int (ζ_7.1.1 44), .int (ζ_7.1.1 45), .ref (b 8), .ref (b 9), .ref (b 10), .int (ζ_7.1.1 49), .ref (b 11), .ref (b 12), .int (ζ_7.1.1 52)])), (b 8, .inl (d 0, 16, .inl (ζ_7.1.2.2.1 46))), (b 9, .inl (d 1, 16, .inr (.inl (ζ_7.1.2.2.2.1 47)))), (b 10, .inl (d 1, 16, .inr (.inl (ζ_7.1.2.2.2.1 48)))), (b 11, .inl (d 0, 8, .inl (ζ_7.1.2.2.1 50))), (b 12, .inl (d 0, 8, .inl (ζ_7.1.2.2.1 51))), (b 13, .inr (8, [.int (ζ_7.1.1 60), .int (ζ_7.1.1 61), .int (ζ_7.1.1 62), .int (ζ_7.1.1 63), .ref (b 14), .ref (b 15), .int (ζ_7.1.1 66), .ref (b 17)])), (b 14, .inl (d 0, 100, .inl (ζ_7.1.2.2.1 64))), (b 15, .inl (d 3, 100, .inl (ζ_7.1.2.2.1 65))), (b 16, .inr (17, [.ref (b 19), .int (ζ_7.1.1 81), .int (ζ_7.1.1 82)])), (b 19, .inl (d 4, 17, .inr (.inr (.inr (.inr (ζ_7.1.2.2.2.2 19))))))]) (w := XW d z b ζ_7.1) (tl := ζ_7.2) hP rfl rfl
    have hDc := toT_D (isC := [16, 17]) (isR := [0, 1, 2, 3, 4, 5, 6, 7, 8, 9, 10, 11, 12, 13, 14, 15, 18, 19]) (wc := ALP d (b 17) (b 18) (ζ_7.1.1 70, ζ_7.1.1 72, ζ_7.1.2.2.2.2 18)) (wr := [(b 0, .inr (1, [.ref (b 1), .int (ζ_7.1.1 1), .int (ζ_7.1.1 2), .ref (b 2), .ref (b 3), .ref (b 4), va_rf (ζ_7.1.2.2.2.2 6 0), .ref (b 7), .ref (b 13), .ref (b 16), .int (ζ_7.1.1 10)])), (b 1, .inl (d 2, 500, .inl (ζ_7.1.2.2.1 1))), (b 2, .inl (d 5, 2, .inr (.inr (.inr (.inr (fun j => some (z.2.2 j))))))), (b 3, .inl (d 6, 5, .inr (.inr (.inr (.inr (fun j => some (z.2.2 (2 + j)))))))), (b 4, .inr (4, [.int (ζ_7.1.1 20), .long (ζ_7.1.2.1 21), .long (ζ_7.1.2.1 22), .long (ζ_7.1.2.1 23), .ref (b 5), .ref (b 6), .ref (b 0)])), (b 5, .inr (2, [.long (ζ_7.1.2.1 30), .long (ζ_7.1.2.1 31)])), (b 6, .inr (2, [.long (ζ_7.1.2.1 32), .long (ζ_7.1.2.1 33)])), (b 7, .inr (6, [.int (ζ_7.1.1 40), .int (ζ_7.1.1 41), .int (ζ_7.1.1 42), .int (ζ_7.1.1 43), .int (ζ_7.1.1 44), .int (ζ_7.1.1 45), .ref (b 8), .ref (b 9), .ref (b 10), .int (ζ_7.1.1 49), .ref (b 11), .ref (b 12), .int (ζ_7.1.1 52)])), (b 8, .inl (d 0, 16, .inl (ζ_7.1.2.2.1 46))), (b 9, .inl (d 1, 16, .inr (.inl (ζ_7.1.2.2.2.1 47)))), (b 10, .inl (d 1, 16, .inr (.inl (ζ_7.1.2.2.2.1 48)))), (b 11, .inl (d 0, 8, .inl (ζ_7.1.2.2.1 50))), (b 12, .inl (d 0, 8, .inl (ζ_7.1.2.2.1 51))), (b 13, .inr (8, [.int (ζ_7.1.1 60), .int (ζ_7.1.1 61), .int (ζ_7.1.1 62), .int (ζ_7.1.1 63), .ref (b 14), .ref (b 15), .int (ζ_7.1.1 66), .ref (b 17)])), (b 14, .inl (d 0, 100, .inl (ζ_7.1.2.2.1 64))), (b 15, .inl (d 3, 100, .inl (ζ_7.1.2.2.1 65))), (b 16, .inr (17, [.ref (b 19), .int (ζ_7.1.1 81), .int (ζ_7.1.1 82)])), (b 19, .inl (d 4, 17, .inr (.inr (.inr (.inr (ζ_7.1.2.2.2.2 19))))))]) (w := XW d z b ζ_7.1) (tl := ζ_7.2) hD rfl rfl rfl
    refine runW_rS (va_runV (As := [.int p0]) (rest := []) S (tJ14_remove l D d z (b 17) (b 18) ([(b 0, .inr (1, [.ref (b 1), .int (ζ_7.1.1 1), .int (ζ_7.1.1 2), .ref (b 2), .ref (b 3), .ref (b 4), va_rf (ζ_7.1.2.2.2.2 6 0), .ref (b 7), .ref (b 13), .ref (b 16), .int (ζ_7.1.1 10)])), (b 1, .inl (d 2, 500, .inl (ζ_7.1.2.2.1 1))), (b 2, .inl (d 5, 2, .inr (.inr (.inr (.inr (fun j => some (z.2.2 j))))))), (b 3, .inl (d 6, 5, .inr (.inr (.inr (.inr (fun j => some (z.2.2 (2 + j)))))))), (b 4, .inr (4, [.int (ζ_7.1.1 20), .long (ζ_7.1.2.1 21), .long (ζ_7.1.2.1 22), .long (ζ_7.1.2.1 23), .ref (b 5), .ref (b 6), .ref (b 0)])), (b 5, .inr (2, [.long (ζ_7.1.2.1 30), .long (ζ_7.1.2.1 31)])), (b 6, .inr (2, [.long (ζ_7.1.2.1 32), .long (ζ_7.1.2.1 33)])), (b 7, .inr (6, [.int (ζ_7.1.1 40), .int (ζ_7.1.1 41), .int (ζ_7.1.1 42), .int (ζ_7.1.1 43), .int (ζ_7.1.1 44), .int (ζ_7.1.1 45), .ref (b 8), .ref (b 9), .ref (b 10), .int (ζ_7.1.1 49), .ref (b 11), .ref (b 12), .int (ζ_7.1.1 52)])), (b 8, .inl (d 0, 16, .inl (ζ_7.1.2.2.1 46))), (b 9, .inl (d 1, 16, .inr (.inl (ζ_7.1.2.2.2.1 47)))), (b 10, .inl (d 1, 16, .inr (.inl (ζ_7.1.2.2.2.1 48)))), (b 11, .inl (d 0, 8, .inl (ζ_7.1.2.2.1 50))), (b 12, .inl (d 0, 8, .inl (ζ_7.1.2.2.1 51))), (b 13, .inr (8, [.int (ζ_7.1.1 60), .int (ζ_7.1.1 61), .int (ζ_7.1.1 62), .int (ζ_7.1.1 63), .ref (b 14), .ref (b 15), .int (ζ_7.1.1 66), .ref (b 17)])), (b 14, .inl (d 0, 100, .inl (ζ_7.1.2.2.1 64))), (b 15, .inl (d 3, 100, .inl (ζ_7.1.2.2.1 65))), (b 16, .inr (17, [.ref (b 19), .int (ζ_7.1.1 81), .int (ζ_7.1.1 82)])), (b 19, .inl (d 4, 17, .inr (.inr (.inr (.inr (ζ_7.1.2.2.2.2 19))))))] ++ ζ_7.2) K p0 (ζ_7.1.1 70, ζ_7.1.1 72, ζ_7.1.2.2.2.2 18) r_11 ζ_12 h_10 (fun j q hq => (hes_9 j q hq).imp fun _ h => List.mem_append_right _ h) _) (cwV 1 hts (lw_V q1551 q1552 q1553 q118 q1554) rfl rfl rfl (by decide +kernel) ⟨(Nat.le_of_ble_eq_true rfl), (Nat.le_of_ble_eq_true rfl)⟩) ⟨Pw.blind, (va_recv hK.1 hP (ci := 18) (q0 := 16) rfl rfl), fun U hU hW => Pw.at hK hPc hDc hZ hS hA hU hW⟩ rfl rfl hl.1 rfl (lv_room (Nat.le_of_ble_eq_true rfl)) dX0_forget_22 ⟨(Nat.le_of_ble_eq_true rfl), (Nat.le_of_ble_eq_true rfl)⟩) hPc hDc hS hA ?_
    clear hP hD hS hPc hDc
    intro _ _ H locs hP hD hS
    replace hP := ofT_P (perm := [2, 3, 4, 5, 6, 7, 8, 9, 10, 11, 12, 13, 14, 15, 16, 17, 0, 1, 18, 19]) (w' := XW d z b ζ_13.1) hP (by subst e_ζ_13; rfl)
    replace hD := ofT_D (perm := [2, 3, 4, 5, 6, 7, 8, 9, 10, 11, 12, 13, 14, 15, 16, 17, 0, 1, 18, 19]) (w' := XW d z b ζ_13.1) hD rfl (by subst e_ζ_13; rfl)
    rw [show ζ_7.2 = ζ_13.2 from by subst e_ζ_13; rfl] at hP hD
    clear h_10
    replace hf := nm_some hf ζ_13 e_ζ_13
    clear e_ζ_13
    refine lv_pop hx hb dX0_forget_25 rfl ?_
    refine lv_aload_n hx hb dX0_forget_26 rfl (lv_at hl 0 rfl) ?_
    refine g_get hx hb hts S.2.2.2.1 hK hP in_X0 0 rfl rfl 8 (by decide) q293 (fun _ h9 => h9) (v := .ref (b 13)) rfl dX0_forget_27 ?_
    refine g_getN hx hb hts S.2.2.2.1 hK hP in_X8 13 rfl rfl 7 (by decide) q823 (fun _ h9 => h9) (v := .ref (b 17)) rfl dX0_forget_30 ?_
    obtain ⟨r_15, h_14, hf⟩ := b1_some hf
    have hPc := toT_P (isC := [16, 17]) (isR := [0, 1, 2, 3, 4, 5, 6, 7, 8, 9, 10, 11, 12, 13, 14, 15, 18, 19]) (wc := ALP d (b 17) (b 18) (ζ_13.1.1 70, ζ_13.1.1 72, ζ_13.1.2.2.2.2 18)) (wr := [(b 0, .inr (1, [.ref (b 1), .int (ζ_13.1.1 1), .int (ζ_13.1.1 2), .ref (b 2), .ref (b 3), .ref (b 4), va_rf (ζ_13.1.2.2.2.2 6 0), .ref (b 7), .ref (b 13), .ref (b 16), .int (ζ_13.1.1 10)])), (b 1, .inl (d 2, 500, .inl (ζ_13.1.2.2.1 1))), (b 2, .inl (d 5, 2, .inr (.inr (.inr (.inr (fun j => some (z.2.2 j))))))), (b 3, .inl (d 6, 5, .inr (.inr (.inr (.inr (fun j => some (z.2.2 (2 + j)))))))), (b 4, .inr (4, [.int (ζ_13.1.1 20), .long (ζ_13.1.2.1 21), .long (ζ_13.1.2.1 22), .long (ζ_13.1.2.1 23), .ref (b 5), .ref (b 6), .ref (b 0)])), (b 5, .inr (2, [.long (ζ_13.1.2.1 30), .long (ζ_13.1.2.1 31)])), (b 6, .inr (2, [.long (ζ_13.1.2.1 32), .long (ζ_13.1.2.1 33)])), (b 7, .inr (6, [.int (ζ_13.1.1 40), .int (ζ_13.1.1 41), .int (ζ_13.1.1 42), .int (ζ_13.1.1 43), .int (ζ_13.1.1 44), .int (ζ_13.1.1 45), .ref (b 8), .ref (b 9), .ref (b 10), .int (ζ_13.1.1 49), .ref (b 11), .ref (b 12), .int (ζ_13.1.1 52)])), (b 8, .inl (d 0, 16, .inl (ζ_13.1.2.2.1 46))), (b 9, .inl (d 1, 16, .inr (.inl (ζ_13.1.2.2.2.1 47)))), (b 10, .inl (d 1, 16, .inr (.inl (ζ_13.1.2.2.2.1 48)))), (b 11, .inl (d 0, 8, .inl (ζ_13.1.2.2.1 50))), (b 12, .inl (d 0, 8, .inl (ζ_13.1.2.2.1 51))), (b 13, .inr (8, [.int (ζ_13.1.1 60), .int (ζ_13.1.1 61), .int (ζ_13.1.1 62), .int (ζ_13.1.1 63), .ref (b 14), .ref (b 15), .int (ζ_13.1.1 66), .ref (b 17)])), (b 14, .inl (d 0, 100, .inl (ζ_13.1.2.2.1 64))), (b 15, .inl (d 3, 100, .inl (ζ_13.1.2.2.1 65))), (b 16, .inr (17, [.ref (b 19), .int (ζ_13.1.1 81), .int (ζ_13.1.1 82)])), (b 19, .inl (d 4, 17, .inr (.inr (.inr (.inr (ζ_13.1.2.2.2.2 19))))))]) (w := XW d z b ζ_13.1) (tl := ζ_13.2) hP rfl rfl
    have hDc := toT_D (isC := [16, 17]) (isR := [0, 1, 2, 3, 4, 5, 6, 7, 8, 9, 10, 11, 12, 13, 14, 15, 18, 19]) (wc := ALP d (b 17) (b 18) (ζ_13.1.1 70, ζ_13.1.1 72, ζ_13.1.2.2.2.2 18)) (wr := [(b 0, .inr (1, [.ref (b 1), .int (ζ_13.1.1 1), .int (ζ_13.1.1 2), .ref (b 2), .ref (b 3), .ref (b 4), va_rf (ζ_13.1.2.2.2.2 6 0), .ref (b 7), .ref (b 13), .ref (b 16), .int (ζ_13.1.1 10)])), (b 1, .inl (d 2, 500, .inl (ζ_13.1.2.2.1 1))), (b 2, .inl (d 5, 2, .inr (.inr (.inr (.inr (fun j => some (z.2.2 j))))))), (b 3, .inl (d 6, 5, .inr (.inr (.inr (.inr (fun j => some (z.2.2 (2 + j)))))))), (b 4, .inr (4, [.int (ζ_13.1.1 20), .long (ζ_13.1.2.1 21), .long (ζ_13.1.2.1 22), .long (ζ_13.1.2.1 23), .ref (b 5), .ref (b 6), .ref (b 0)])), (b 5, .inr (2, [.long (ζ_13.1.2.1 30), .long (ζ_13.1.2.1 31)])), (b 6, .inr (2, [.long (ζ_13.1.2.1 32), .long (ζ_13.1.2.1 33)])), (b 7, .inr (6, [.int (ζ_13.1.1 40), .int (ζ_13.1.1 41), .int (ζ_13.1.1 42), .int (ζ_13.1.1 43), .int (ζ_13.1.1 44), .int (ζ_13.1.1 45), .ref (b 8), .ref (b 9), .ref (b 10), .int (ζ_13.1.1 49), .ref (b 11), .ref (b 12), .int (ζ_13.1.1 52)])), (b 8, .inl (d 0, 16, .inl (ζ_13.1.2.2.1 46))), (b 9, .inl (d 1, 16, .inr (.inl (ζ_13.1.2.2.2.1 47)))), (b 10, .inl (d 1, 16, .inr (.inl (ζ_13.1.2.2.2.1 48)))), (b 11, .inl (d 0, 8, .inl (ζ_13.1.2.2.1 50))), (b 12, .inl (d 0, 8, .inl (ζ_13.1.2.2.1 51))), (b 13, .inr (8, [.int (ζ_13.1.1 60), .int (ζ_13.1.1 61), .int (ζ_13.1.1 62), .int (ζ_13.1.1 63), .ref (b 14), .ref (b 15), .int (ζ_13.1.1 66), .ref (b 17)])), (b 14, .inl (d 0, 100, .inl (ζ_13.1.2.2.1 64))), (b 15, .inl (d 3, 100, .inl (ζ_13.1.2.2.1 65))), (b 16, .inr (17, [.ref (b 19), .int (ζ_13.1.1 81), .int (ζ_13.1.1 82)])), (b 19, .inl (d 4, 17, .inr (.inr (.inr (.inr (ζ_13.1.2.2.2.2 19))))))]) (w := XW d z b ζ_13.1) (tl := ζ_13.2) hD rfl rfl rfl
    refine runW_i (va_runV (As := []) (rest := []) S (tJ14_size l D d z (b 17) (b 18) ([(b 0, .inr (1, [.ref (b 1), .int (ζ_13.1.1 1), .int (ζ_13.1.1 2), .ref (b 2), .ref (b 3), .ref (b 4), va_rf (ζ_13.1.2.2.2.2 6 0), .ref (b 7), .ref (b 13), .ref (b 16), .int (ζ_13.1.1 10)])), (b 1, .inl (d 2, 500, .inl (ζ_13.1.2.2.1 1))), (b 2, .inl (d 5, 2, .inr (.inr (.inr (.inr (fun j => some (z.2.2 j))))))), (b 3, .inl (d 6, 5, .inr (.inr (.inr (.inr (fun j => some (z.2.2 (2 + j)))))))), (b 4, .inr (4, [.int (ζ_13.1.1 20), .long (ζ_13.1.2.1 21), .long (ζ_13.1.2.1 22), .long (ζ_13.1.2.1 23), .ref (b 5), .ref (b 6), .ref (b 0)])), (b 5, .inr (2, [.long (ζ_13.1.2.1 30), .long (ζ_13.1.2.1 31)])), (b 6, .inr (2, [.long (ζ_13.1.2.1 32), .long (ζ_13.1.2.1 33)])), (b 7, .inr (6, [.int (ζ_13.1.1 40), .int (ζ_13.1.1 41), .int (ζ_13.1.1 42), .int (ζ_13.1.1 43), .int (ζ_13.1.1 44), .int (ζ_13.1.1 45), .ref (b 8), .ref (b 9), .ref (b 10), .int (ζ_13.1.1 49), .ref (b 11), .ref (b 12), .int (ζ_13.1.1 52)])), (b 8, .inl (d 0, 16, .inl (ζ_13.1.2.2.1 46))), (b 9, .inl (d 1, 16, .inr (.inl (ζ_13.1.2.2.2.1 47)))), (b 10, .inl (d 1, 16, .inr (.inl (ζ_13.1.2.2.2.1 48)))), (b 11, .inl (d 0, 8, .inl (ζ_13.1.2.2.1 50))), (b 12, .inl (d 0, 8, .inl (ζ_13.1.2.2.1 51))), (b 13, .inr (8, [.int (ζ_13.1.1 60), .int (ζ_13.1.1 61), .int (ζ_13.1.1 62), .int (ζ_13.1.1 63), .ref (b 14), .ref (b 15), .int (ζ_13.1.1 66), .ref (b 17)])), (b 14, .inl (d 0, 100, .inl (ζ_13.1.2.2.1 64))), (b 15, .inl (d 3, 100, .inl (ζ_13.1.2.2.1 65))), (b 16, .inr (17, [.ref (b 19), .int (ζ_13.1.1 81), .int (ζ_13.1.1 82)])), (b 19, .inl (d 4, 17, .inr (.inr (.inr (.inr (ζ_13.1.2.2.2.2 19))))))] ++ ζ_13.2) K (ζ_13.1.1 70, ζ_13.1.1 72, ζ_13.1.2.2.2.2 18) r_15 h_14 _) (cwV 0 hts (lw_V q1392 q938 q939 q118 q940) rfl rfl rfl (by decide +kernel) ⟨(Nat.le_of_ble_eq_true rfl), (Nat.le_of_ble_eq_true rfl)⟩) ⟨Pw.blind, (va_recv hK.1 hP (ci := 18) (q0 := 16) rfl rfl), fun U hU hW => Pw.at hK hPc hDc hZ hS hA hU hW⟩ rfl rfl hl.1 rfl (lv_room (Nat.le_of_ble_eq_true rfl)) dX0_forget_33 ⟨(Nat.le_of_ble_eq_true rfl), (Nat.le_of_ble_eq_true rfl)⟩) hPc hDc hS hA ?_
    clear hP hD hS hPc hDc
    intro H locs hP hD hS
    replace hP := ofT_P (perm := [2, 3, 4, 5, 6, 7, 8, 9, 10, 11, 12, 13, 14, 15, 16, 17, 0, 1, 18, 19]) (w' := XW d z b ζ_13.1) hP rfl
    replace hD := ofT_D (perm := [2, 3, 4, 5, 6, 7, 8, 9, 10, 11, 12, 13, 14, 15, 16, 17, 0, 1, 18, 19]) (w' := XW d z b ζ_13.1) hD rfl rfl
    clear h_14
    refine W.widen (k := 5) (n := 227) (Nat.le_of_ble_eq_true rfl) (Nat.le_of_ble_eq_true rfl) ?_
    exact hret _ _ _ _ _ _ _ hf dX0_forget_36 hP hD hS
  · replace hf := itU_f hf (bi_e0 c_4)
    clear c_4
    replace hf := hf (fun _ => 0)
    refine lv_iconst (v := -1) hx hb dX0_forget_8 (by decide) ?_
    refine W.widen (k := 5) (n := 227) (Nat.le_of_ble_eq_true rfl) (Nat.le_of_ble_eq_true rfl) ?_
    exact hret _ _ _ _ _ _ _ hf dX0_forget_9 hP hD hS
noncomputable def fX0_memoryCount (K : Nat) (μ : XT) : Option (Int32 × XT) :=
  b2 (fX0_isReady K μ.1) fun r_2 ζ_3 =>
  nm ((xmrg μ.1 ζ_3, μ.2)) fun ζ_4 =>
  if r_2 = true then
    b1 (fJ14_size K (ζ_4.1.1 70, ζ_4.1.1 72, ζ_4.1.2.2.2.2 18)) fun r_7 =>
    some (r_7, ζ_4)
  else
    some ((-1 : Int32), ζ_4)
set_option maxHeartbeats 4000000 in
set_option maxRecDepth 100000 in
theorem tX0_memoryCount (l : Launch) (D : va_G) (d : Nat → ClassId) (z : ZT) (b : Nat → Nat) (K : Nat) (μ : XT) (r : Int32) (μ' : XT) (hf : fX0_memoryCount K μ = some (r, μ')) : CI l yX0_memoryCount (ws_ yX0_memoryCount cX0_memoryCount 1 (Option.some Jvm.ClassFile.FieldType.int)) (rmc 1 0 0 20) D d z [.ref (b 0)] (XW d z b μ.1 ++ μ.2) r (XW d z b μ'.1 ++ μ'.2) := by
  refine CI.of2 (own := RX0) rfl (by decide) (Nat.le_of_ble_eq_true rfl) rfl ?_
  intro p e s m args below meth c A Q ls S hin hK hP hD hZ hS hA hl hret0
  have hret : ∀ (x : Int32) (μx : XT) (H : Heap) (locs : List Loc) (pc : Nat) (ls' : Array Slot), some (x, μx) = some (r, μ') → decode cX0_memoryCount pc = .ok (.ireturn, 1) → va_P D CL (XW d z b μx.1 ++ μx.2) H → va_D A (XW d z b μx.1 ++ μx.2) → va_S A s.heap H locs → W p l e (rmc 1 0 0 20) s m args below meth c H locs 0 0 Q (F0 m pc ls' [.int x]) := by
    intro x μx H locs pc ls' h9 hdg hP hD hS
    obtain ⟨rfl, rfl⟩ := so_2 h9
    exact hret0 H locs pc ls' hdg hP hD hS
  have hx := S.1
  have hb := S.2.1
  have hts := S.2.2.2.2
  have hl : lv_has ls 1 [(0, .ref (b 0))] := hl
  unfold fX0_memoryCount at hf
  refine lv_aload_n hx hb dX0_memoryCount_0 rfl (lv_at hl 0 rfl) ?_
  obtain ⟨r_2, ζ_3, h_1, hf⟩ := b2_some hf
  obtain ⟨ζ_4, e_ζ_4⟩ : ∃ x, x = (xmrg μ.1 ζ_3, μ.2) := ⟨_, rfl⟩
  refine run_i (w := XW d z b μ.1) (tl := μ.2) (wr := [(b 17, .inr (18, [.int (μ.1.1 70), .ref (b 18), .int (μ.1.1 72)])), (b 18, .inl (d 4, 16, .inr (.inr (.inr (.inr (μ.1.2.2.2.2 18)))))), (b 16, .inr (17, [.ref (b 19), .int (μ.1.1 81), .int (μ.1.1 82)])), (b 19, .inl (d 4, 17, .inr (.inr (.inr (.inr (μ.1.2.2.2.2 19))))))]) (w' := XW d z b ζ_4.1) (va_runV (As := []) (rest := []) S (tX0_isReady l D d z b (μ.1.2.2.2.2 6 0) K μ.1 r_2 ζ_3 h_1 _) (cwV 0 hts (lw_V q857 q859 qs18 q94 q860) rfl rfl rfl (by decide +kernel) ⟨(Nat.le_of_ble_eq_true rfl), (Nat.le_of_ble_eq_true rfl)⟩) ⟨Pw.blind, (va_recv hK.1 hP (ci := 1) (q0 := 0) rfl rfl), fun U hU hW => Pw.cut (w := XW d z b μ.1) (tl := μ.2) hK hP hD hZ hS hA [0, 1, 2, 3, 4, 5, 6, 7, 8, 9, 10, 11, 12, 13, 14, 15] rfl rfl hU hW⟩ rfl rfl hl.1 rfl (lv_room (Nat.le_of_ble_eq_true rfl)) dX0_memoryCount_1 ⟨(Nat.le_of_ble_eq_true rfl), (Nat.le_of_ble_eq_true rfl)⟩) hP hD hS hA [0, 1, 2, 3, 4, 5, 6, 7, 8, 9, 10, 11, 12, 13, 14, 15] [16, 17, 18, 19] [4, 5, 6, 7, 8, 9, 10, 11, 12, 13, 14, 15, 16, 17, 18, 19, 0, 1, 2, 3] rfl rfl rfl rfl (by decide) rfl (by subst e_ζ_4; rfl) ?_
  clear hP hD hS
  intro H locs hP hD hS
  rw [show μ.2 = ζ_4.2 from by subst e_ζ_4; rfl] at hP hD
  clear h_1
  replace hf := nm_some hf ζ_4 e_ζ_4
  clear e_ζ_4
  refine lv_if_eq (tgt := 20) hx hb dX0_memoryCount_4 (by decide) (fun c_5 => ?_) (fun c_5 => ?_)
  · replace hf := it_f hf (bi_e0 c_5)
    clear c_5
    refine lv_iconst (v := -1) hx hb dX0_memoryCount_20 (by decide) ?_
    refine W.widen (k := 0) (n := 0) (Nat.le_of_ble_eq_true rfl) (Nat.le_of_ble_eq_true rfl) ?_
    exact hret _ _ _ _ _ _ hf dX0_memoryCount_21 hP hD hS
  · replace hf := it_t hf (bi_n0 c_5)
    clear c_5
    refine lv_aload_n hx hb dX0_memoryCount_7 rfl (lv_at hl 0 rfl) ?_
    refine g_get hx hb hts S.2.2.2.1 hK hP in_X0 0 rfl rfl 8 (by decide) q293 (fun _ h9 => h9) (v := .ref (b 13)) rfl dX0_memoryCount_8 ?_
    refine g_getN hx hb hts S.2.2.2.1 hK hP in_X8 13 rfl rfl 7 (by decide) q823 (fun _ h9 => h9) (v := .ref (b 17)) rfl dX0_memoryCount_11 ?_
    obtain ⟨r_7, h_6, hf⟩ := b1_some hf
    have hPc := toT_P (isC := [16, 17]) (isR := [0, 1, 2, 3, 4, 5, 6, 7, 8, 9, 10, 11, 12, 13, 14, 15, 18, 19]) (wc := ALP d (b 17) (b 18) (ζ_4.1.1 70, ζ_4.1.1 72, ζ_4.1.2.2.2.2 18)) (wr := [(b 0, .inr (1, [.ref (b 1), .int (ζ_4.1.1 1), .int (ζ_4.1.1 2), .ref (b 2), .ref (b 3), .ref (b 4), va_rf (ζ_4.1.2.2.2.2 6 0), .ref (b 7), .ref (b 13), .ref (b 16), .int (ζ_4.1.1 10)])), (b 1, .inl (d 2, 500, .inl (ζ_4.1.2.2.1 1))), (b 2, .inl (d 5, 2, .inr (.inr (.inr (.inr (fun j => some (z.2.2 j))))))), (b 3, .inl (d 6, 5, .inr (.inr (.inr (.inr (fun j => some (z.2.2 (2 + j)))))))), (b 4, .inr (4, [.int (ζ_4.1.1 20), .long (ζ_4.1.2.1 21), .long (ζ_4.1.2.1 22), .long (ζ_4.1.2.1 23), .ref (b 5), .ref (b 6), .ref (b 0)])), (b 5, .inr (2, [.long (ζ_4.1.2.1 30), .long (ζ_4.1.2.1 31)])), (b 6, .inr (2, [.long (ζ_4.1.2.1 32), .long (ζ_4.1.2.1 33)])), (b 7, .inr (6, [.int (ζ_4.1.1 40), .int (ζ_4.1.1 41), .int (ζ_4.1.1 42), .int (ζ_4.1.1 43), .int (ζ_4.1.1 44), .int (ζ_4.1.1 45), .ref (b 8), .ref (b 9), .ref (b 10), .int (ζ_4.1.1 49), .ref (b 11), .ref (b 12), .int (ζ_4.1.1 52)])), (b 8, .inl (d 0, 16, .inl (ζ_4.1.2.2.1 46))), (b 9, .inl (d 1, 16, .inr (.inl (ζ_4.1.2.2.2.1 47)))), (b 10, .inl (d 1, 16, .inr (.inl (ζ_4.1.2.2.2.1 48)))), (b 11, .inl (d 0, 8, .inl (ζ_4.1.2.2.1 50))), (b 12, .inl (d 0, 8, .inl (ζ_4.1.2.2.1 51))), (b 13, .inr (8, [.int (ζ_4.1.1 60), .int (ζ_4.1.1 61), .int (ζ_4.1.1 62), .int (ζ_4.1.1 63), .ref (b 14), .ref (b 15), .int (ζ_4.1.1 66), .ref (b 17)])), (b 14, .inl (d 0, 100, .inl (ζ_4.1.2.2.1 64))), (b 15, .inl (d 3, 100, .inl (ζ_4.1.2.2.1 65))), (b 16, .inr (17, [.ref (b 19), .int (ζ_4.1.1 81), .int (ζ_4.1.1 82)])), (b 19, .inl (d 4, 17, .inr (.inr (.inr (.inr (ζ_4.1.2.2.2.2 19))))))]) (w := XW d z b ζ_4.1) (tl := ζ_4.2) hP rfl rfl
    have hDc := toT_D (isC := [16, 17]) (isR := [0, 1, 2, 3, 4, 5, 6, 7, 8, 9, 10, 11, 12, 13, 14, 15, 18, 19]) (wc := ALP d (b 17) (b 18) (ζ_4.1.1 70, ζ_4.1.1 72, ζ_4.1.2.2.2.2 18)) (wr := [(b 0, .inr (1, [.ref (b 1), .int (ζ_4.1.1 1), .int (ζ_4.1.1 2), .ref (b 2), .ref (b 3), .ref (b 4), va_rf (ζ_4.1.2.2.2.2 6 0), .ref (b 7), .ref (b 13), .ref (b 16), .int (ζ_4.1.1 10)])), (b 1, .inl (d 2, 500, .inl (ζ_4.1.2.2.1 1))), (b 2, .inl (d 5, 2, .inr (.inr (.inr (.inr (fun j => some (z.2.2 j))))))), (b 3, .inl (d 6, 5, .inr (.inr (.inr (.inr (fun j => some (z.2.2 (2 + j)))))))), (b 4, .inr (4, [.int (ζ_4.1.1 20), .long (ζ_4.1.2.1 21), .long (ζ_4.1.2.1 22), .long (ζ_4.1.2.1 23), .ref (b 5), .ref (b 6), .ref (b 0)])), (b 5, .inr (2, [.long (ζ_4.1.2.1 30), .long (ζ_4.1.2.1 31)])), (b 6, .inr (2, [.long (ζ_4.1.2.1 32), .long (ζ_4.1.2.1 33)])), (b 7, .inr (6, [.int (ζ_4.1.1 40), .int (ζ_4.1.1 41), .int (ζ_4.1.1 42), .int (ζ_4.1.1 43), .int (ζ_4.1.1 44), .int (ζ_4.1.1 45), .ref (b 8), .ref (b 9), .ref (b 10), .int (ζ_4.1.1 49), .ref (b 11), .ref (b 12), .int (ζ_4.1.1 52)])), (b 8, .inl (d 0, 16, .inl (ζ_4.1.2.2.1 46))), (b 9, .inl (d 1, 16, .inr (.inl (ζ_4.1.2.2.2.1 47)))), (b 10, .inl (d 1, 16, .inr (.inl (ζ_4.1.2.2.2.1 48)))), (b 11, .inl (d 0, 8, .inl (ζ_4.1.2.2.1 50))), (b 12, .inl (d 0, 8, .inl (ζ_4.1.2.2.1 51))), (b 13, .inr (8, [.int (ζ_4.1.1 60), .int (ζ_4.1.1 61), .int (ζ_4.1.1 62), .int (ζ_4.1.1 63), .ref (b 14), .ref (b 15), .int (ζ_4.1.1 66), .ref (b 17)])), (b 14, .inl (d 0, 100, .inl (ζ_4.1.2.2.1 64))), (b 15, .inl (d 3, 100, .inl (ζ_4.1.2.2.1 65))), (b 16, .inr (17, [.ref (b 19), .int (ζ_4.1.1 81), .int (ζ_4.1.1 82)])), (b 19, .inl (d 4, 17, .inr (.inr (.inr (.inr (ζ_4.1.2.2.2.2 19))))))]) (w := XW d z b ζ_4.1) (tl := ζ_4.2) hD rfl rfl rfl
    refine runW_i (va_runV (As := []) (rest := []) S (tJ14_size l D d z (b 17) (b 18) ([(b 0, .inr (1, [.ref (b 1), .int (ζ_4.1.1 1), .int (ζ_4.1.1 2), .ref (b 2), .ref (b 3), .ref (b 4), va_rf (ζ_4.1.2.2.2.2 6 0), .ref (b 7), .ref (b 13), .ref (b 16), .int (ζ_4.1.1 10)])), (b 1, .inl (d 2, 500, .inl (ζ_4.1.2.2.1 1))), (b 2, .inl (d 5, 2, .inr (.inr (.inr (.inr (fun j => some (z.2.2 j))))))), (b 3, .inl (d 6, 5, .inr (.inr (.inr (.inr (fun j => some (z.2.2 (2 + j)))))))), (b 4, .inr (4, [.int (ζ_4.1.1 20), .long (ζ_4.1.2.1 21), .long (ζ_4.1.2.1 22), .long (ζ_4.1.2.1 23), .ref (b 5), .ref (b 6), .ref (b 0)])), (b 5, .inr (2, [.long (ζ_4.1.2.1 30), .long (ζ_4.1.2.1 31)])), (b 6, .inr (2, [.long (ζ_4.1.2.1 32), .long (ζ_4.1.2.1 33)])), (b 7, .inr (6, [.int (ζ_4.1.1 40), .int (ζ_4.1.1 41), .int (ζ_4.1.1 42), .int (ζ_4.1.1 43), .int (ζ_4.1.1 44), .int (ζ_4.1.1 45), .ref (b 8), .ref (b 9), .ref (b 10), .int (ζ_4.1.1 49), .ref (b 11), .ref (b 12), .int (ζ_4.1.1 52)])), (b 8, .inl (d 0, 16, .inl (ζ_4.1.2.2.1 46))), (b 9, .inl (d 1, 16, .inr (.inl (ζ_4.1.2.2.2.1 47)))), (b 10, .inl (d 1, 16, .inr (.inl (ζ_4.1.2.2.2.1 48)))), (b 11, .inl (d 0, 8, .inl (ζ_4.1.2.2.1 50))), (b 12, .inl (d 0, 8, .inl (ζ_4.1.2.2.1 51))), (b 13, .inr (8, [.int (ζ_4.1.1 60), .int (ζ_4.1.1 61), .int (ζ_4.1.1 62), .int (ζ_4.1.1 63), .ref (b 14), .ref (b 15), .int (ζ_4.1.1 66), .ref (b 17)])), (b 14, .inl (d 0, 100, .inl (ζ_4.1.2.2.1 64))), (b 15, .inl (d 3, 100, .inl (ζ_4.1.2.2.1 65))), (b 16, .inr (17, [.ref (b 19), .int (ζ_4.1.1 81), .int (ζ_4.1.1 82)])), (b 19, .inl (d 4, 17, .inr (.inr (.inr (.inr (ζ_4.1.2.2.2.2 19))))))] ++ ζ_4.2) K (ζ_4.1.1 70, ζ_4.1.1 72, ζ_4.1.2.2.2.2 18) r_7 h_6 _) (cwV 0 hts (lw_V q1392 q938 q939 q118 q940) rfl rfl rfl (by decide +kernel) ⟨(Nat.le_of_ble_eq_true rfl), (Nat.le_of_ble_eq_true rfl)⟩) ⟨Pw.blind, (va_recv hK.1 hP (ci := 18) (q0 := 16) rfl rfl), fun U hU hW => Pw.at hK hPc hDc hZ hS hA hU hW⟩ rfl rfl hl.1 rfl (lv_room (Nat.le_of_ble_eq_true rfl)) dX0_memoryCount_14 ⟨(Nat.le_of_ble_eq_true rfl), (Nat.le_of_ble_eq_true rfl)⟩) hPc hDc hS hA ?_
    clear hP hD hS hPc hDc
    intro H locs hP hD hS
    replace hP := ofT_P (perm := [2, 3, 4, 5, 6, 7, 8, 9, 10, 11, 12, 13, 14, 15, 16, 17, 0, 1, 18, 19]) (w' := XW d z b ζ_4.1) hP rfl
    replace hD := ofT_D (perm := [2, 3, 4, 5, 6, 7, 8, 9, 10, 11, 12, 13, 14, 15, 16, 17, 0, 1, 18, 19]) (w' := XW d z b ζ_4.1) hD rfl rfl
    clear h_6
    refine lv_goto (tgt := 21) hx hb dX0_memoryCount_17 (by decide) ?_
    refine W.widen (k := 0) (n := 0) (Nat.le_of_ble_eq_true rfl) (Nat.le_of_ble_eq_true rfl) ?_
    exact hret _ _ _ _ _ _ hf dX0_memoryCount_21 hP hD hS
noncomputable def fX0_memoryFrequency (K : Nat) (p0 : Int32) (μ : XT) : Option (Int32 × XT) :=
  b2 (fX0_isEntry K p0 μ) fun r_2 ζ_3 =>
  if r_2 = true then
    b1 (fJ14_get K p0 (ζ_3.1.1 70, ζ_3.1.1 72, ζ_3.1.2.2.2.2 18)) fun r_6 =>
    b1 (entOf ζ_3.2 r_6) fun t_7 =>
    some (t_7.1, ζ_3)
  else
    some ((-1 : Int32), ζ_3)
set_option maxHeartbeats 4000000 in
set_option maxRecDepth 100000 in
theorem tX0_memoryFrequency (l : Launch) (D : va_G) (d : Nat → ClassId) (z : ZT) (b : Nat → Nat) (K : Nat) (p0 : Int32) (μ : XT) (r : Int32) (μ' : XT) (hf : fX0_memoryFrequency K p0 μ = some (r, μ')) : CI l yX0_memoryFrequency (ws_ yX0_memoryFrequency cX0_memoryFrequency 2 (Option.some Jvm.ClassFile.FieldType.int)) (rmc 3 0 0 64) D d z [.ref (b 0), .int p0] (XW d z b μ.1 ++ μ.2) r (XW d z b μ'.1 ++ μ'.2) := by
  refine CI.of2 (own := RX0) rfl (by decide) (Nat.le_of_ble_eq_true rfl) rfl ?_
  intro p e s m args below meth c A Q ls S hin hK hP hD hZ hS hA hl hret0
  have hret : ∀ (x : Int32) (μx : XT) (H : Heap) (locs : List Loc) (pc : Nat) (ls' : Array Slot), some (x, μx) = some (r, μ') → decode cX0_memoryFrequency pc = .ok (.ireturn, 1) → va_P D CL (XW d z b μx.1 ++ μx.2) H → va_D A (XW d z b μx.1 ++ μx.2) → va_S A s.heap H locs → W p l e (rmc 3 0 0 64) s m args below meth c H locs 0 0 Q (F0 m pc ls' [.int x]) := by
    intro x μx H locs pc ls' h9 hdg hP hD hS
    obtain ⟨rfl, rfl⟩ := so_2 h9
    exact hret0 H locs pc ls' hdg hP hD hS
  have hx := S.1
  have hb := S.2.1
  have hts := S.2.2.2.2
  have hl : lv_has ls 2 [(0, .ref (b 0)), (1, .int p0)] := hl
  unfold fX0_memoryFrequency at hf
  refine lv_aload_n hx hb dX0_memoryFrequency_0 rfl (lv_at hl 0 rfl) ?_
  refine lv_iload_n hx hb dX0_memoryFrequency_1 rfl (lv_at hl 1 rfl) ?_
  obtain ⟨r_2, ζ_3, h_1, hf⟩ := b2_some hf
  refine runW_i (va_runV (As := [.int p0]) (rest := []) S (tX0_isEntry l D d z b K p0 μ r_2 ζ_3 h_1 _) (cwV 1 hts (lw_V q1547 q1549 qs47 q94 q1550) rfl rfl rfl (by decide +kernel) ⟨(Nat.le_of_ble_eq_true rfl), (Nat.le_of_ble_eq_true rfl)⟩) ⟨Pw.blind, (va_recv hK.1 hP (ci := 1) (q0 := 0) rfl rfl), fun U hU hW => Pw.at hK hP hD hZ hS hA hU hW⟩ rfl rfl hl.1 rfl (lv_room (Nat.le_of_ble_eq_true rfl)) dX0_memoryFrequency_2 ⟨(Nat.le_of_ble_eq_true rfl), (Nat.le_of_ble_eq_true rfl)⟩) hP hD hS hA ?_
  clear hP hD hS
  intro H locs hP hD hS
  clear h_1
  refine lv_if_eq (tgt := 28) hx hb dX0_memoryFrequency_5 (by decide) (fun c_4 => ?_) (fun c_4 => ?_)
  · replace hf := it_f hf (bi_e0 c_4)
    clear c_4
    refine lv_iconst (v := -1) hx hb dX0_memoryFrequency_28 (by decide) ?_
    refine W.widen (k := 0) (n := 0) (Nat.le_of_ble_eq_true rfl) (Nat.le_of_ble_eq_true rfl) ?_
    exact hret _ _ _ _ _ _ hf dX0_memoryFrequency_29 hP hD hS
  · replace hf := it_t hf (bi_n0 c_4)
    clear c_4
    refine lv_aload_n hx hb dX0_memoryFrequency_8 rfl (lv_at hl 0 rfl) ?_
    refine g_get hx hb hts S.2.2.2.1 hK hP in_X0 0 rfl rfl 8 (by decide) q293 (fun _ h9 => h9) (v := .ref (b 13)) rfl dX0_memoryFrequency_9 ?_
    refine g_getN hx hb hts S.2.2.2.1 hK hP in_X8 13 rfl rfl 7 (by decide) q823 (fun _ h9 => h9) (v := .ref (b 17)) rfl dX0_memoryFrequency_12 ?_
    refine lv_iload_n hx hb dX0_memoryFrequency_15 rfl (lv_at hl 1 rfl) ?_
    obtain ⟨r_6, h_5, hf⟩ := b1_some hf
    have hPc := toT_P (isC := [16, 17]) (isR := [0, 1, 2, 3, 4, 5, 6, 7, 8, 9, 10, 11, 12, 13, 14, 15, 18, 19]) (wc := ALP d (b 17) (b 18) (ζ_3.1.1 70, ζ_3.1.1 72, ζ_3.1.2.2.2.2 18)) (wr := [(b 0, .inr (1, [.ref (b 1), .int (ζ_3.1.1 1), .int (ζ_3.1.1 2), .ref (b 2), .ref (b 3), .ref (b 4), va_rf (ζ_3.1.2.2.2.2 6 0), .ref (b 7), .ref (b 13), .ref (b 16), .int (ζ_3.1.1 10)])), (b 1, .inl (d 2, 500, .inl (ζ_3.1.2.2.1 1))), (b 2, .inl (d 5, 2, .inr (.inr (.inr (.inr (fun j => some (z.2.2 j))))))), (b 3, .inl (d 6, 5, .inr (.inr (.inr (.inr (fun j => some (z.2.2 (2 + j)))))))), (b 4, .inr (4, [.int (ζ_3.1.1 20), .long (ζ_3.1.2.1 21), .long (ζ_3.1.2.1 22), .long (ζ_3.1.2.1 23), .ref (b 5), .ref (b 6), .ref (b 0)])), (b 5, .inr (2, [.long (ζ_3.1.2.1 30), .long (ζ_3.1.2.1 31)])), (b 6, .inr (2, [.long (ζ_3.1.2.1 32), .long (ζ_3.1.2.1 33)])), (b 7, .inr (6, [.int (ζ_3.1.1 40), .int (ζ_3.1.1 41), .int (ζ_3.1.1 42), .int (ζ_3.1.1 43), .int (ζ_3.1.1 44), .int (ζ_3.1.1 45), .ref (b 8), .ref (b 9), .ref (b 10), .int (ζ_3.1.1 49), .ref (b 11), .ref (b 12), .int (ζ_3.1.1 52)])), (b 8, .inl (d 0, 16, .inl (ζ_3.1.2.2.1 46))), (b 9, .inl (d 1, 16, .inr (.inl (ζ_3.1.2.2.2.1 47)))), (b 10, .inl (d 1, 16, .inr (.inl (ζ_3.1.2.2.2.1 48)))), (b 11, .inl (d 0, 8, .inl (ζ_3.1.2.2.1 50))), (b 12, .inl (d 0, 8, .inl (ζ_3.1.2.2.1 51))), (b 13, .inr (8, [.int (ζ_3.1.1 60), .int (ζ_3.1.1 61), .int (ζ_3.1.1 62), .int (ζ_3.1.1 63), .ref (b 14), .ref (b 15), .int (ζ_3.1.1 66), .ref (b 17)])), (b 14, .inl (d 0, 100, .inl (ζ_3.1.2.2.1 64))), (b 15, .inl (d 3, 100, .inl (ζ_3.1.2.2.1 65))), (b 16, .inr (17, [.ref (b 19), .int (ζ_3.1.1 81), .int (ζ_3.1.1 82)])), (b 19, .inl (d 4, 17, .inr (.inr (.inr (.inr (ζ_3.1.2.2.2.2 19))))))]) (w := XW d z b ζ_3.1) (tl := ζ_3.2) hP rfl rfl
    have hDc := toT_D (isC := [16, 17]) (isR := [0, 1, 2, 3, 4, 5, 6, 7, 8, 9, 10, 11, 12, 13, 14, 15, 18, 19]) (wc := ALP d (b 17) (b 18) (ζ_3.1.1 70, ζ_3.1.1 72, ζ_3.1.2.2.2.2 18)) (wr := [(b 0, .inr (1, [.ref (b 1), .int (ζ_3.1.1 1), .int (ζ_3.1.1 2), .ref (b 2), .ref (b 3), .ref (b 4), va_rf (ζ_3.1.2.2.2.2 6 0), .ref (b 7), .ref (b 13), .ref (b 16), .int (ζ_3.1.1 10)])), (b 1, .inl (d 2, 500, .inl (ζ_3.1.2.2.1 1))), (b 2, .inl (d 5, 2, .inr (.inr (.inr (.inr (fun j => some (z.2.2 j))))))), (b 3, .inl (d 6, 5, .inr (.inr (.inr (.inr (fun j => some (z.2.2 (2 + j)))))))), (b 4, .inr (4, [.int (ζ_3.1.1 20), .long (ζ_3.1.2.1 21), .long (ζ_3.1.2.1 22), .long (ζ_3.1.2.1 23), .ref (b 5), .ref (b 6), .ref (b 0)])), (b 5, .inr (2, [.long (ζ_3.1.2.1 30), .long (ζ_3.1.2.1 31)])), (b 6, .inr (2, [.long (ζ_3.1.2.1 32), .long (ζ_3.1.2.1 33)])), (b 7, .inr (6, [.int (ζ_3.1.1 40), .int (ζ_3.1.1 41), .int (ζ_3.1.1 42), .int (ζ_3.1.1 43), .int (ζ_3.1.1 44), .int (ζ_3.1.1 45), .ref (b 8), .ref (b 9), .ref (b 10), .int (ζ_3.1.1 49), .ref (b 11), .ref (b 12), .int (ζ_3.1.1 52)])), (b 8, .inl (d 0, 16, .inl (ζ_3.1.2.2.1 46))), (b 9, .inl (d 1, 16, .inr (.inl (ζ_3.1.2.2.2.1 47)))), (b 10, .inl (d 1, 16, .inr (.inl (ζ_3.1.2.2.2.1 48)))), (b 11, .inl (d 0, 8, .inl (ζ_3.1.2.2.1 50))), (b 12, .inl (d 0, 8, .inl (ζ_3.1.2.2.1 51))), (b 13, .inr (8, [.int (ζ_3.1.1 60), .int (ζ_3.1.1 61), .int (ζ_3.1.1 62), .int (ζ_3.1.1 63), .ref (b 14), .ref (b 15), .int (ζ_3.1.1 66), .ref (b 17)])), (b 14, .inl (d 0, 100, .inl (ζ_3.1.2.2.1 64))), (b 15, .inl (d 3, 100, .inl (ζ_3.1.2.2.1 65))), (b 16, .inr (17, [.ref (b 19), .int (ζ_3.1.1 81), .int (ζ_3.1.1 82)])), (b 19, .inl (d 4, 17, .inr (.inr (.inr (.inr (ζ_3.1.2.2.2.2 19))))))]) (w := XW d z b ζ_3.1) (tl := ζ_3.2) hD rfl rfl rfl
    refine runW_rS (va_runV (As := [.int p0]) (rest := []) S (tJ14_get l D d z (b 17) (b 18) ([(b 0, .inr (1, [.ref (b 1), .int (ζ_3.1.1 1), .int (ζ_3.1.1 2), .ref (b 2), .ref (b 3), .ref (b 4), va_rf (ζ_3.1.2.2.2.2 6 0), .ref (b 7), .ref (b 13), .ref (b 16), .int (ζ_3.1.1 10)])), (b 1, .inl (d 2, 500, .inl (ζ_3.1.2.2.1 1))), (b 2, .inl (d 5, 2, .inr (.inr (.inr (.inr (fun j => some (z.2.2 j))))))), (b 3, .inl (d 6, 5, .inr (.inr (.inr (.inr (fun j => some (z.2.2 (2 + j)))))))), (b 4, .inr (4, [.int (ζ_3.1.1 20), .long (ζ_3.1.2.1 21), .long (ζ_3.1.2.1 22), .long (ζ_3.1.2.1 23), .ref (b 5), .ref (b 6), .ref (b 0)])), (b 5, .inr (2, [.long (ζ_3.1.2.1 30), .long (ζ_3.1.2.1 31)])), (b 6, .inr (2, [.long (ζ_3.1.2.1 32), .long (ζ_3.1.2.1 33)])), (b 7, .inr (6, [.int (ζ_3.1.1 40), .int (ζ_3.1.1 41), .int (ζ_3.1.1 42), .int (ζ_3.1.1 43), .int (ζ_3.1.1 44), .int (ζ_3.1.1 45), .ref (b 8), .ref (b 9), .ref (b 10), .int (ζ_3.1.1 49), .ref (b 11), .ref (b 12), .int (ζ_3.1.1 52)])), (b 8, .inl (d 0, 16, .inl (ζ_3.1.2.2.1 46))), (b 9, .inl (d 1, 16, .inr (.inl (ζ_3.1.2.2.2.1 47)))), (b 10, .inl (d 1, 16, .inr (.inl (ζ_3.1.2.2.2.1 48)))), (b 11, .inl (d 0, 8, .inl (ζ_3.1.2.2.1 50))), (b 12, .inl (d 0, 8, .inl (ζ_3.1.2.2.1 51))), (b 13, .inr (8, [.int (ζ_3.1.1 60), .int (ζ_3.1.1 61), .int (ζ_3.1.1 62), .int (ζ_3.1.1 63), .ref (b 14), .ref (b 15), .int (ζ_3.1.1 66), .ref (b 17)])), (b 14, .inl (d 0, 100, .inl (ζ_3.1.2.2.1 64))), (b 15, .inl (d 3, 100, .inl (ζ_3.1.2.2.1 65))), (b 16, .inr (17, [.ref (b 19), .int (ζ_3.1.1 81), .int (ζ_3.1.1 82)])), (b 19, .inl (d 4, 17, .inr (.inr (.inr (.inr (ζ_3.1.2.2.2.2 19))))))] ++ ζ_3.2) K p0 (ζ_3.1.1 70, ζ_3.1.1 72, ζ_3.1.2.2.2.2 18) r_6 h_5 _) (cwV 1 hts (lw_V q1393 q942 q943 q118 q944) rfl rfl rfl (by decide +kernel) ⟨(Nat.le_of_ble_eq_true rfl), (Nat.le_of_ble_eq_true rfl)⟩) ⟨Pw.blind, (va_recv hK.1 hP (ci := 18) (q0 := 16) rfl rfl), fun U hU hW => Pw.at hK hPc hDc hZ hS hA hU hW⟩ rfl rfl hl.1 rfl (lv_room (Nat.le_of_ble_eq_true rfl)) dX0_memoryFrequency_16 ⟨(Nat.le_of_ble_eq_true rfl), (Nat.le_of_ble_eq_true rfl)⟩) hPc hDc hS hA ?_
    clear hP hD hS hPc hDc
    intro _ _ H locs hP hD hS
    replace hP := ofT_P (perm := [2, 3, 4, 5, 6, 7, 8, 9, 10, 11, 12, 13, 14, 15, 16, 17, 0, 1, 18, 19]) (w' := XW d z b ζ_3.1) hP rfl
    replace hD := ofT_D (perm := [2, 3, 4, 5, 6, 7, 8, 9, 10, 11, 12, 13, 14, 15, 16, 17, 0, 1, 18, 19]) (w' := XW d z b ζ_3.1) hD rfl rfl
    clear h_5
    obtain ⟨t_7, m_8, hf⟩ := b1_some hf
    replace m_8 := entOf_mem m_8
    refine g_castM hx hb hts S.2.2.2.1 hK hP (ci := 16) rfl (List.mem_append_right _ m_8) q1394 dX0_memoryFrequency_19 ?_
    refine g_getMN (tl := ζ_3.2) hx hb hts S.2.2.2.1 hK hP in_X17 m_8 rfl 0 (by decide) q1514 (fun _ h9 => h9) (v := .int t_7.1) rfl dX0_memoryFrequency_22 ?_
    refine lv_goto (tgt := 29) hx hb dX0_memoryFrequency_25 (by decide) ?_
    refine W.widen (k := 0) (n := 0) (Nat.le_of_ble_eq_true rfl) (Nat.le_of_ble_eq_true rfl) ?_
    exact hret _ _ _ _ _ _ hf dX0_memoryFrequency_29 hP hD hS
noncomputable def fX0_memorySettings (K : Nat) (p0 : Int32) (μ : XT) : Option (Int32 × XT) :=
  b2 (fX0_isEntry K p0 μ) fun r_2 ζ_3 =>
  if r_2 = true then
    b1 (fJ14_get K p0 (ζ_3.1.1 70, ζ_3.1.1 72, ζ_3.1.2.2.2.2 18)) fun r_6 =>
    b1 (entOf ζ_3.2 r_6) fun t_7 =>
    some (t_7.2.1, ζ_3)
  else
    some ((-1 : Int32), ζ_3)
set_option maxHeartbeats 4000000 in
set_option maxRecDepth 100000 in
theorem tX0_memorySettings (l : Launch) (D : va_G) (d : Nat → ClassId) (z : ZT) (b : Nat → Nat) (K : Nat) (p0 : Int32) (μ : XT) (r : Int32) (μ' : XT) (hf : fX0_memorySettings K p0 μ = some (r, μ')) : CI l yX0_memorySettings (ws_ yX0_memorySettings cX0_memorySettings 2 (Option.some Jvm.ClassFile.FieldType.int)) (rmc 3 0 0 64) D d z [.ref (b 0), .int p0] (XW d z b μ.1 ++ μ.2) r (XW d z b μ'.1 ++ μ'.2) := by
  refine CI.of2 (own := RX0) rfl (by decide) (Nat.le_of_ble_eq_true rfl) rfl ?_
  intro p e s m args below meth c A Q ls S hin hK hP hD hZ hS hA hl hret0
  have hret : ∀ (x : Int32) (μx : XT) (H : Heap) (locs : List Loc) (pc : Nat) (ls' : Array Slot), some (x, μx) = some (r, μ') → decode cX0_memorySettings pc = .ok (.ireturn, 1) → va_P D CL (XW d z b μx.1 ++ μx.2) H → va_D A (XW d z b μx.1 ++ μx.2) → va_S A s.heap H locs → W p l e (rmc 3 0 0 64) s m args below meth c H locs 0 0 Q (F0 m pc ls' [.int x]) := by
    intro x μx H locs pc ls' h9 hdg hP hD hS
    obtain ⟨rfl, rfl⟩ := so_2 h9
    exact hret0 H locs pc ls' hdg hP hD hS
  have hx := S.1
  have hb := S.2.1
  have hts := S.2.2.2.2
  have hl : lv_has ls 2 [(0, .ref (b 0)), (1, .int p0)] := hl
  unfold fX0_memorySettings at hf
  refine lv_aload_n hx hb dX0_memorySettings_0 rfl (lv_at hl 0 rfl) ?_
  refine lv_iload_n hx hb dX0_memorySettings_1 rfl (lv_at hl 1 rfl) ?_
  obtain ⟨r_2, ζ_3, h_1, hf⟩ := b2_some hf
  refine runW_i (va_runV (As := [.int p0]) (rest := []) S (tX0_isEntry l D d z b K p0 μ r_2 ζ_3 h_1 _) (cwV 1 hts (lw_V q1547 q1549 qs47 q94 q1550) rfl rfl rfl (by decide +kernel) ⟨(Nat.le_of_ble_eq_true rfl), (Nat.le_of_ble_eq_true rfl)⟩) ⟨Pw.blind, (va_recv hK.1 hP (ci := 1) (q0 := 0) rfl rfl), fun U hU hW => Pw.at hK hP hD hZ hS hA hU hW⟩ rfl rfl hl.1 rfl (lv_room (Nat.le_of_ble_eq_true rfl)) dX0_memorySettings_2 ⟨(Nat.le_of_ble_eq_true rfl), (Nat.le_of_ble_eq_true rfl)⟩) hP hD hS hA ?_
  clear hP hD hS
  intro H locs hP hD hS
  clear h_1
  refine lv_if_eq (tgt := 28) hx hb dX0_memorySettings_5 (by decide) (fun c_4 => ?_) (fun c_4 => ?_)
  · replace hf := it_f hf (bi_e0 c_4)
    clear c_4
    refine lv_iconst (v := -1) hx hb dX0_memorySettings_28 (by decide) ?_
    refine W.widen (k := 0) (n := 0) (Nat.le_of_ble_eq_true rfl) (Nat.le_of_ble_eq_true rfl) ?_
    exact hret _ _ _ _ _ _ hf dX0_memorySettings_29 hP hD hS
  · replace hf := it_t hf (bi_n0 c_4)
    clear c_4
    refine lv_aload_n hx hb dX0_memorySettings_8 rfl (lv_at hl 0 rfl) ?_
    refine g_get hx hb hts S.2.2.2.1 hK hP in_X0 0 rfl rfl 8 (by decide) q293 (fun _ h9 => h9) (v := .ref (b 13)) rfl dX0_memorySettings_9 ?_
    refine g_getN hx hb hts S.2.2.2.1 hK hP in_X8 13 rfl rfl 7 (by decide) q823 (fun _ h9 => h9) (v := .ref (b 17)) rfl dX0_memorySettings_12 ?_
    refine lv_iload_n hx hb dX0_memorySettings_15 rfl (lv_at hl 1 rfl) ?_
    obtain ⟨r_6, h_5, hf⟩ := b1_some hf
    have hPc := toT_P (isC := [16, 17]) (isR := [0, 1, 2, 3, 4, 5, 6, 7, 8, 9, 10, 11, 12, 13, 14, 15, 18, 19]) (wc := ALP d (b 17) (b 18) (ζ_3.1.1 70, ζ_3.1.1 72, ζ_3.1.2.2.2.2 18)) (wr := [(b 0, .inr (1, [.ref (b 1), .int (ζ_3.1.1 1), .int (ζ_3.1.1 2), .ref (b 2), .ref (b 3), .ref (b 4), va_rf (ζ_3.1.2.2.2.2 6 0), .ref (b 7), .ref (b 13), .ref (b 16), .int (ζ_3.1.1 10)])), (b 1, .inl (d 2, 500, .inl (ζ_3.1.2.2.1 1))), (b 2, .inl (d 5, 2, .inr (.inr (.inr (.inr (fun j => some (z.2.2 j))))))), (b 3, .inl (d 6, 5, .inr (.inr (.inr (.inr (fun j => some (z.2.2 (2 + j)))))))), (b 4, .inr (4, [.int (ζ_3.1.1 20), .long (ζ_3.1.2.1 21), .long (ζ_3.1.2.1 22), .long (ζ_3.1.2.1 23), .ref (b 5), .ref (b 6), .ref (b 0)])), (b 5, .inr (2, [.long (ζ_3.1.2.1 30), .long (ζ_3.1.2.1 31)])), (b 6, .inr (2, [.long (ζ_3.1.2.1 32), .long (ζ_3.1.2.1 33)])), (b 7, .inr (6, [.int (ζ_3.1.1 40), .int (ζ_3.1.1 41), .int (ζ_3.1.1 42), .int (ζ_3.1.1 43), .int (ζ_3.1.1 44), .int (ζ_3.1.1 45), .ref (b 8), .ref (b 9), .ref (b 10), .int (ζ_3.1.1 49), .ref (b 11), .ref (b 12), .int (ζ_3.1.1 52)])), (b 8, .inl (d 0, 16, .inl (ζ_3.1.2.2.1 46))), (b 9, .inl (d 1, 16, .inr (.inl (ζ_3.1.2.2.2.1 47)))), (b 10, .inl (d 1, 16, .inr (.inl (ζ_3.1.2.2.2.1 48)))), (b 11, .inl (d 0, 8, .inl (ζ_3.1.2.2.1 50))), (b 12, .inl (d 0, 8, .inl (ζ_3.1.2.2.1 51))), (b 13, .inr (8, [.int (ζ_3.1.1 60), .int (ζ_3.1.1 61), .int (ζ_3.1.1 62), .int (ζ_3.1.1 63), .ref (b 14), .ref (b 15), .int (ζ_3.1.1 66), .ref (b 17)])), (b 14, .inl (d 0, 100, .inl (ζ_3.1.2.2.1 64))), (b 15, .inl (d 3, 100, .inl (ζ_3.1.2.2.1 65))), (b 16, .inr (17, [.ref (b 19), .int (ζ_3.1.1 81), .int (ζ_3.1.1 82)])), (b 19, .inl (d 4, 17, .inr (.inr (.inr (.inr (ζ_3.1.2.2.2.2 19))))))]) (w := XW d z b ζ_3.1) (tl := ζ_3.2) hP rfl rfl
    have hDc := toT_D (isC := [16, 17]) (isR := [0, 1, 2, 3, 4, 5, 6, 7, 8, 9, 10, 11, 12, 13, 14, 15, 18, 19]) (wc := ALP d (b 17) (b 18) (ζ_3.1.1 70, ζ_3.1.1 72, ζ_3.1.2.2.2.2 18)) (wr := [(b 0, .inr (1, [.ref (b 1), .int (ζ_3.1.1 1), .int (ζ_3.1.1 2), .ref (b 2), .ref (b 3), .ref (b 4), va_rf (ζ_3.1.2.2.2.2 6 0), .ref (b 7), .ref (b 13), .ref (b 16), .int (ζ_3.1.1 10)])), (b 1, .inl (d 2, 500, .inl (ζ_3.1.2.2.1 1))), (b 2, .inl (d 5, 2, .inr (.inr (.inr (.inr (fun j => some (z.2.2 j))))))), (b 3, .inl (d 6, 5, .inr (.inr (.inr (.inr (fun j => some (z.2.2 (2 + j)))))))), (b 4, .inr (4, [.int (ζ_3.1.1 20), .long (ζ_3.1.2.1 21), .long (ζ_3.1.2.1 22), .long (ζ_3.1.2.1 23), .ref (b 5), .ref (b 6), .ref (b 0)])), (b 5, .inr (2, [.long (ζ_3.1.2.1 30), .long (ζ_3.1.2.1 31)])), (b 6, .inr (2, [.long (ζ_3.1.2.1 32), .long (ζ_3.1.2.1 33)])), (b 7, .inr (6, [.int (ζ_3.1.1 40), .int (ζ_3.1.1 41), .int (ζ_3.1.1 42), .int (ζ_3.1.1 43), .int (ζ_3.1.1 44), .int (ζ_3.1.1 45), .ref (b 8), .ref (b 9), .ref (b 10), .int (ζ_3.1.1 49), .ref (b 11), .ref (b 12), .int (ζ_3.1.1 52)])), (b 8, .inl (d 0, 16, .inl (ζ_3.1.2.2.1 46))), (b 9, .inl (d 1, 16, .inr (.inl (ζ_3.1.2.2.2.1 47)))), (b 10, .inl (d 1, 16, .inr (.inl (ζ_3.1.2.2.2.1 48)))), (b 11, .inl (d 0, 8, .inl (ζ_3.1.2.2.1 50))), (b 12, .inl (d 0, 8, .inl (ζ_3.1.2.2.1 51))), (b 13, .inr (8, [.int (ζ_3.1.1 60), .int (ζ_3.1.1 61), .int (ζ_3.1.1 62), .int (ζ_3.1.1 63), .ref (b 14), .ref (b 15), .int (ζ_3.1.1 66), .ref (b 17)])), (b 14, .inl (d 0, 100, .inl (ζ_3.1.2.2.1 64))), (b 15, .inl (d 3, 100, .inl (ζ_3.1.2.2.1 65))), (b 16, .inr (17, [.ref (b 19), .int (ζ_3.1.1 81), .int (ζ_3.1.1 82)])), (b 19, .inl (d 4, 17, .inr (.inr (.inr (.inr (ζ_3.1.2.2.2.2 19))))))]) (w := XW d z b ζ_3.1) (tl := ζ_3.2) hD rfl rfl rfl
    refine runW_rS (va_runV (As := [.int p0]) (rest := []) S (tJ14_get l D d z (b 17) (b 18) ([(b 0, .inr (1, [.ref (b 1), .int (ζ_3.1.1 1), .int (ζ_3.1.1 2), .ref (b 2), .ref (b 3), .ref (b 4), va_rf (ζ_3.1.2.2.2.2 6 0), .ref (b 7), .ref (b 13), .ref (b 16), .int (ζ_3.1.1 10)])), (b 1, .inl (d 2, 500, .inl (ζ_3.1.2.2.1 1))), (b 2, .inl (d 5, 2, .inr (.inr (.inr (.inr (fun j => some (z.2.2 j))))))), (b 3, .inl (d 6, 5, .inr (.inr (.inr (.inr (fun j => some (z.2.2 (2 + j)))))))), (b 4, .inr (4, [.int (ζ_3.1.1 20), .long (ζ_3.1.2.1 21), .long (ζ_3.1.2.1 22), .long (ζ_3.1.2.1 23), .ref (b 5), .ref (b 6), .ref (b 0)])), (b 5, .inr (2, [.long (ζ_3.1.2.1 30), .long (ζ_3.1.2.1 31)])), (b 6, .inr (2, [.long (ζ_3.1.2.1 32), .long (ζ_3.1.2.1 33)])), (b 7, .inr (6, [.int (ζ_3.1.1 40), .int (ζ_3.1.1 41), .int (ζ_3.1.1 42), .int (ζ_3.1.1 43), .int (ζ_3.1.1 44), .int (ζ_3.1.1 45), .ref (b 8), .ref (b 9), .ref (b 10), .int (ζ_3.1.1 49), .ref (b 11), .ref (b 12), .int (ζ_3.1.1 52)])), (b 8, .inl (d 0, 16, .inl (ζ_3.1.2.2.1 46))), (b 9, .inl (d 1, 16, .inr (.inl (ζ_3.1.2.2.2.1 47)))), (b 10, .inl (d 1, 16, .inr (.inl (ζ_3.1.2.2.2.1 48)))), (b 11, .inl (d 0, 8, .inl (ζ_3.1.2.2.1 50))), (b 12, .inl (d 0, 8, .inl (ζ_3.1.2.2.1 51))), (b 13, .inr (8, [.int (ζ_3.1.1 60), .int (ζ_3.1.1 61), .int (ζ_3.1.1 62), .int (ζ_3.1.1 63), .ref (b 14), .ref (b 15), .int (ζ_3.1.1 66), .ref (b 17)])), (b 14, .inl (d 0, 100, .inl (ζ_3.1.2.2.1 64))), (b 15, .inl (d 3, 100, .inl (ζ_3.1.2.2.1 65))), (b 16, .inr (17, [.ref (b 19), .int (ζ_3.1.1 81), .int (ζ_3.1.1 82)])), (b 19, .inl (d 4, 17, .inr (.inr (.inr (.inr (ζ_3.1.2.2.2.2 19))))))] ++ ζ_3.2) K p0 (ζ_3.1.1 70, ζ_3.1.1 72, ζ_3.1.2.2.2.2 18) r_6 h_5 _) (cwV 1 hts (lw_V q1393 q942 q943 q118 q944) rfl rfl rfl (by decide +kernel) ⟨(Nat.le_of_ble_eq_true rfl), (Nat.le_of_ble_eq_true rfl)⟩) ⟨Pw.blind, (va_recv hK.1 hP (ci := 18) (q0 := 16) rfl rfl), fun U hU hW => Pw.at hK hPc hDc hZ hS hA hU hW⟩ rfl rfl hl.1 rfl (lv_room (Nat.le_of_ble_eq_true rfl)) dX0_memorySettings_16 ⟨(Nat.le_of_ble_eq_true rfl), (Nat.le_of_ble_eq_true rfl)⟩) hPc hDc hS hA ?_
    clear hP hD hS hPc hDc
    intro _ _ H locs hP hD hS
    replace hP := ofT_P (perm := [2, 3, 4, 5, 6, 7, 8, 9, 10, 11, 12, 13, 14, 15, 16, 17, 0, 1, 18, 19]) (w' := XW d z b ζ_3.1) hP rfl
    replace hD := ofT_D (perm := [2, 3, 4, 5, 6, 7, 8, 9, 10, 11, 12, 13, 14, 15, 16, 17, 0, 1, 18, 19]) (w' := XW d z b ζ_3.1) hD rfl rfl
    clear h_5
    obtain ⟨t_7, m_8, hf⟩ := b1_some hf
    replace m_8 := entOf_mem m_8
    refine g_castM hx hb hts S.2.2.2.1 hK hP (ci := 16) rfl (List.mem_append_right _ m_8) q1394 dX0_memorySettings_19 ?_
    refine g_getMN (tl := ζ_3.2) hx hb hts S.2.2.2.1 hK hP in_X17 m_8 rfl 1 (by decide) q1516 (fun _ h9 => h9) (v := .int t_7.2.1) rfl dX0_memorySettings_22 ?_
    refine lv_goto (tgt := 29) hx hb dX0_memorySettings_25 (by decide) ?_
    refine W.widen (k := 0) (n := 0) (Nat.le_of_ble_eq_true rfl) (Nat.le_of_ble_eq_true rfl) ?_
    exact hret _ _ _ _ _ _ hf dX0_memorySettings_29 hP hD hS
noncomputable def fX0_memorySwr (K : Nat) (p0 : Int32) (μ : XT) : Option (Int32 × XT) :=
  b2 (fX0_isEntry K p0 μ) fun r_2 ζ_3 =>
  if r_2 = true then
    b1 (fJ14_get K p0 (ζ_3.1.1 70, ζ_3.1.1 72, ζ_3.1.2.2.2.2 18)) fun r_6 =>
    b1 (entOf ζ_3.2 r_6) fun t_7 =>
    some (t_7.2.2, ζ_3)
  else
    some ((-1 : Int32), ζ_3)
set_option maxHeartbeats 4000000 in
set_option maxRecDepth 100000 in
theorem tX0_memorySwr (l : Launch) (D : va_G) (d : Nat → ClassId) (z : ZT) (b : Nat → Nat) (K : Nat) (p0 : Int32) (μ : XT) (r : Int32) (μ' : XT) (hf : fX0_memorySwr K p0 μ = some (r, μ')) : CI l yX0_memorySwr (ws_ yX0_memorySwr cX0_memorySwr 2 (Option.some Jvm.ClassFile.FieldType.int)) (rmc 3 0 0 64) D d z [.ref (b 0), .int p0] (XW d z b μ.1 ++ μ.2) r (XW d z b μ'.1 ++ μ'.2) := by
  refine CI.of2 (own := RX0) rfl (by decide) (Nat.le_of_ble_eq_true rfl) rfl ?_
  intro p e s m args below meth c A Q ls S hin hK hP hD hZ hS hA hl hret0
  have hret : ∀ (x : Int32) (μx : XT) (H : Heap) (locs : List Loc) (pc : Nat) (ls' : Array Slot), some (x, μx) = some (r, μ') → decode cX0_memorySwr pc = .ok (.ireturn, 1) → va_P D CL (XW d z b μx.1 ++ μx.2) H → va_D A (XW d z b μx.1 ++ μx.2) → va_S A s.heap H locs → W p l e (rmc 3 0 0 64) s m args below meth c H locs 0 0 Q (F0 m pc ls' [.int x]) := by
    intro x μx H locs pc ls' h9 hdg hP hD hS
    obtain ⟨rfl, rfl⟩ := so_2 h9
    exact hret0 H locs pc ls' hdg hP hD hS
  have hx := S.1
  have hb := S.2.1
  have hts := S.2.2.2.2
  have hl : lv_has ls 2 [(0, .ref (b 0)), (1, .int p0)] := hl
  unfold fX0_memorySwr at hf
  refine lv_aload_n hx hb dX0_memorySwr_0 rfl (lv_at hl 0 rfl) ?_
  refine lv_iload_n hx hb dX0_memorySwr_1 rfl (lv_at hl 1 rfl) ?_
  obtain ⟨r_2, ζ_3, h_1, hf⟩ := b2_some hf
  refine runW_i (va_runV (As := [.int p0]) (rest := []) S (tX0_isEntry l D d z b K p0 μ r_2 ζ_3 h_1 _) (cwV 1 hts (lw_V q1547 q1549 qs47 q94 q1550) rfl rfl rfl (by decide +kernel) ⟨(Nat.le_of_ble_eq_true rfl), (Nat.le_of_ble_eq_true rfl)⟩) ⟨Pw.blind, (va_recv hK.1 hP (ci := 1) (q0 := 0) rfl rfl), fun U hU hW => Pw.at hK hP hD hZ hS hA hU hW⟩ rfl rfl hl.1 rfl (lv_room (Nat.le_of_ble_eq_true rfl)) dX0_memorySwr_2 ⟨(Nat.le_of_ble_eq_true rfl), (Nat.le_of_ble_eq_true rfl)⟩) hP hD hS hA ?_
  clear hP hD hS
  intro H locs hP hD hS
  clear h_1
  refine lv_if_eq (tgt := 28) hx hb dX0_memorySwr_5 (by decide) (fun c_4 => ?_) (fun c_4 => ?_)
  · replace hf := it_f hf (bi_e0 c_4)
    clear c_4
    refine lv_iconst (v := -1) hx hb dX0_memorySwr_28 (by decide) ?_
    refine W.widen (k := 0) (n := 0) (Nat.le_of_ble_eq_true rfl) (Nat.le_of_ble_eq_true rfl) ?_
    exact hret _ _ _ _ _ _ hf dX0_memorySwr_29 hP hD hS
  · replace hf := it_t hf (bi_n0 c_4)
    clear c_4
    refine lv_aload_n hx hb dX0_memorySwr_8 rfl (lv_at hl 0 rfl) ?_
    refine g_get hx hb hts S.2.2.2.1 hK hP in_X0 0 rfl rfl 8 (by decide) q293 (fun _ h9 => h9) (v := .ref (b 13)) rfl dX0_memorySwr_9 ?_
    refine g_getN hx hb hts S.2.2.2.1 hK hP in_X8 13 rfl rfl 7 (by decide) q823 (fun _ h9 => h9) (v := .ref (b 17)) rfl dX0_memorySwr_12 ?_
    refine lv_iload_n hx hb dX0_memorySwr_15 rfl (lv_at hl 1 rfl) ?_
    obtain ⟨r_6, h_5, hf⟩ := b1_some hf
    have hPc := toT_P (isC := [16, 17]) (isR := [0, 1, 2, 3, 4, 5, 6, 7, 8, 9, 10, 11, 12, 13, 14, 15, 18, 19]) (wc := ALP d (b 17) (b 18) (ζ_3.1.1 70, ζ_3.1.1 72, ζ_3.1.2.2.2.2 18)) (wr := [(b 0, .inr (1, [.ref (b 1), .int (ζ_3.1.1 1), .int (ζ_3.1.1 2), .ref (b 2), .ref (b 3), .ref (b 4), va_rf (ζ_3.1.2.2.2.2 6 0), .ref (b 7), .ref (b 13), .ref (b 16), .int (ζ_3.1.1 10)])), (b 1, .inl (d 2, 500, .inl (ζ_3.1.2.2.1 1))), (b 2, .inl (d 5, 2, .inr (.inr (.inr (.inr (fun j => some (z.2.2 j))))))), (b 3, .inl (d 6, 5, .inr (.inr (.inr (.inr (fun j => some (z.2.2 (2 + j)))))))), (b 4, .inr (4, [.int (ζ_3.1.1 20), .long (ζ_3.1.2.1 21), .long (ζ_3.1.2.1 22), .long (ζ_3.1.2.1 23), .ref (b 5), .ref (b 6), .ref (b 0)])), (b 5, .inr (2, [.long (ζ_3.1.2.1 30), .long (ζ_3.1.2.1 31)])), (b 6, .inr (2, [.long (ζ_3.1.2.1 32), .long (ζ_3.1.2.1 33)])), (b 7, .inr (6, [.int (ζ_3.1.1 40), .int (ζ_3.1.1 41), .int (ζ_3.1.1 42), .int (ζ_3.1.1 43), .int (ζ_3.1.1 44), .int (ζ_3.1.1 45), .ref (b 8), .ref (b 9), .ref (b 10), .int (ζ_3.1.1 49), .ref (b 11), .ref (b 12), .int (ζ_3.1.1 52)])), (b 8, .inl (d 0, 16, .inl (ζ_3.1.2.2.1 46))), (b 9, .inl (d 1, 16, .inr (.inl (ζ_3.1.2.2.2.1 47)))), (b 10, .inl (d 1, 16, .inr (.inl (ζ_3.1.2.2.2.1 48)))), (b 11, .inl (d 0, 8, .inl (ζ_3.1.2.2.1 50))), (b 12, .inl (d 0, 8, .inl (ζ_3.1.2.2.1 51))), (b 13, .inr (8, [.int (ζ_3.1.1 60), .int (ζ_3.1.1 61), .int (ζ_3.1.1 62), .int (ζ_3.1.1 63), .ref (b 14), .ref (b 15), .int (ζ_3.1.1 66), .ref (b 17)])), (b 14, .inl (d 0, 100, .inl (ζ_3.1.2.2.1 64))), (b 15, .inl (d 3, 100, .inl (ζ_3.1.2.2.1 65))), (b 16, .inr (17, [.ref (b 19), .int (ζ_3.1.1 81), .int (ζ_3.1.1 82)])), (b 19, .inl (d 4, 17, .inr (.inr (.inr (.inr (ζ_3.1.2.2.2.2 19))))))]) (w := XW d z b ζ_3.1) (tl := ζ_3.2) hP rfl rfl
    have hDc := toT_D (isC := [16, 17]) (isR := [0, 1, 2, 3, 4, 5, 6, 7, 8, 9, 10, 11, 12, 13, 14, 15, 18, 19]) (wc := ALP d (b 17) (b 18) (ζ_3.1.1 70, ζ_3.1.1 72, ζ_3.1.2.2.2.2 18)) (wr := [(b 0, .inr (1, [.ref (b 1), .int (ζ_3.1.1 1), .int (ζ_3.1.1 2), .ref (b 2), .ref (b 3), .ref (b 4), va_rf (ζ_3.1.2.2.2.2 6 0), .ref (b 7), .ref (b 13), .ref (b 16), .int (ζ_3.1.1 10)])), (b 1, .inl (d 2, 500, .inl (ζ_3.1.2.2.1 1))), (b 2, .inl (d 5, 2, .inr (.inr (.inr (.inr (fun j => some (z.2.2 j))))))), (b 3, .inl (d 6, 5, .inr (.inr (.inr (.inr (fun j => some (z.2.2 (2 + j)))))))), (b 4, .inr (4, [.int (ζ_3.1.1 20), .long (ζ_3.1.2.1 21), .long (ζ_3.1.2.1 22), .long (ζ_3.1.2.1 23), .ref (b 5), .ref (b 6), .ref (b 0)])), (b 5, .inr (2, [.long (ζ_3.1.2.1 30), .long (ζ_3.1.2.1 31)])), (b 6, .inr (2, [.long (ζ_3.1.2.1 32), .long (ζ_3.1.2.1 33)])), (b 7, .inr (6, [.int (ζ_3.1.1 40), .int (ζ_3.1.1 41), .int (ζ_3.1.1 42), .int (ζ_3.1.1 43), .int (ζ_3.1.1 44), .int (ζ_3.1.1 45), .ref (b 8), .ref (b 9), .ref (b 10), .int (ζ_3.1.1 49), .ref (b 11), .ref (b 12), .int (ζ_3.1.1 52)])), (b 8, .inl (d 0, 16, .inl (ζ_3.1.2.2.1 46))), (b 9, .inl (d 1, 16, .inr (.inl (ζ_3.1.2.2.2.1 47)))), (b 10, .inl (d 1, 16, .inr (.inl (ζ_3.1.2.2.2.1 48)))), (b 11, .inl (d 0, 8, .inl (ζ_3.1.2.2.1 50))), (b 12, .inl (d 0, 8, .inl (ζ_3.1.2.2.1 51))), (b 13, .inr (8, [.int (ζ_3.1.1 60), .int (ζ_3.1.1 61), .int (ζ_3.1.1 62), .int (ζ_3.1.1 63), .ref (b 14), .ref (b 15), .int (ζ_3.1.1 66), .ref (b 17)])), (b 14, .inl (d 0, 100, .inl (ζ_3.1.2.2.1 64))), (b 15, .inl (d 3, 100, .inl (ζ_3.1.2.2.1 65))), (b 16, .inr (17, [.ref (b 19), .int (ζ_3.1.1 81), .int (ζ_3.1.1 82)])), (b 19, .inl (d 4, 17, .inr (.inr (.inr (.inr (ζ_3.1.2.2.2.2 19))))))]) (w := XW d z b ζ_3.1) (tl := ζ_3.2) hD rfl rfl rfl
    refine runW_rS (va_runV (As := [.int p0]) (rest := []) S (tJ14_get l D d z (b 17) (b 18) ([(b 0, .inr (1, [.ref (b 1), .int (ζ_3.1.1 1), .int (ζ_3.1.1 2), .ref (b 2), .ref (b 3), .ref (b 4), va_rf (ζ_3.1.2.2.2.2 6 0), .ref (b 7), .ref (b 13), .ref (b 16), .int (ζ_3.1.1 10)])), (b 1, .inl (d 2, 500, .inl (ζ_3.1.2.2.1 1))), (b 2, .inl (d 5, 2, .inr (.inr (.inr (.inr (fun j => some (z.2.2 j))))))), (b 3, .inl (d 6, 5, .inr (.inr (.inr (.inr (fun j => some (z.2.2 (2 + j)))))))), (b 4, .inr (4, [.int (ζ_3.1.1 20), .long (ζ_3.1.2.1 21), .long (ζ_3.1.2.1 22), .long (ζ_3.1.2.1 23), .ref (b 5), .ref (b 6), .ref (b 0)])), (b 5, .inr (2, [.long (ζ_3.1.2.1 30), .long (ζ_3.1.2.1 31)])), (b 6, .inr (2, [.long (ζ_3.1.2.1 32), .long (ζ_3.1.2.1 33)])), (b 7, .inr (6, [.int (ζ_3.1.1 40), .int (ζ_3.1.1 41), .int (ζ_3.1.1 42), .int (ζ_3.1.1 43), .int (ζ_3.1.1 44), .int (ζ_3.1.1 45), .ref (b 8), .ref (b 9), .ref (b 10), .int (ζ_3.1.1 49), .ref (b 11), .ref (b 12), .int (ζ_3.1.1 52)])), (b 8, .inl (d 0, 16, .inl (ζ_3.1.2.2.1 46))), (b 9, .inl (d 1, 16, .inr (.inl (ζ_3.1.2.2.2.1 47)))), (b 10, .inl (d 1, 16, .inr (.inl (ζ_3.1.2.2.2.1 48)))), (b 11, .inl (d 0, 8, .inl (ζ_3.1.2.2.1 50))), (b 12, .inl (d 0, 8, .inl (ζ_3.1.2.2.1 51))), (b 13, .inr (8, [.int (ζ_3.1.1 60), .int (ζ_3.1.1 61), .int (ζ_3.1.1 62), .int (ζ_3.1.1 63), .ref (b 14), .ref (b 15), .int (ζ_3.1.1 66), .ref (b 17)])), (b 14, .inl (d 0, 100, .inl (ζ_3.1.2.2.1 64))), (b 15, .inl (d 3, 100, .inl (ζ_3.1.2.2.1 65))), (b 16, .inr (17, [.ref (b 19), .int (ζ_3.1.1 81), .int (ζ_3.1.1 82)])), (b 19, .inl (d 4, 17, .inr (.inr (.inr (.inr (ζ_3.1.2.2.2.2 19))))))] ++ ζ_3.2) K p0 (ζ_3.1.1 70, ζ_3.1.1 72, ζ_3.1.2.2.2.2 18) r_6 h_5 _) (cwV 1 hts (lw_V q1393 q942 q943 q118 q944) rfl rfl rfl (by decide +kernel) ⟨(Nat.le_of_ble_eq_true rfl), (Nat.le_of_ble_eq_true rfl)⟩) ⟨Pw.blind, (va_recv hK.1 hP (ci := 18) (q0 := 16) rfl rfl), fun U hU hW => Pw.at hK hPc hDc hZ hS hA hU hW⟩ rfl rfl hl.1 rfl (lv_room (Nat.le_of_ble_eq_true rfl)) dX0_memorySwr_16 ⟨(Nat.le_of_ble_eq_true rfl), (Nat.le_of_ble_eq_true rfl)⟩) hPc hDc hS hA ?_
    clear hP hD hS hPc hDc
    intro _ _ H locs hP hD hS
    replace hP := ofT_P (perm := [2, 3, 4, 5, 6, 7, 8, 9, 10, 11, 12, 13, 14, 15, 16, 17, 0, 1, 18, 19]) (w' := XW d z b ζ_3.1) hP rfl
    replace hD := ofT_D (perm := [2, 3, 4, 5, 6, 7, 8, 9, 10, 11, 12, 13, 14, 15, 16, 17, 0, 1, 18, 19]) (w' := XW d z b ζ_3.1) hD rfl rfl
    clear h_5
    obtain ⟨t_7, m_8, hf⟩ := b1_some hf
    replace m_8 := entOf_mem m_8
    refine g_castM hx hb hts S.2.2.2.1 hK hP (ci := 16) rfl (List.mem_append_right _ m_8) q1394 dX0_memorySwr_19 ?_
    refine g_getMN (tl := ζ_3.2) hx hb hts S.2.2.2.1 hK hP in_X17 m_8 rfl 2 (by decide) q1518 (fun _ h9 => h9) (v := .int t_7.2.2) rfl dX0_memorySwr_22 ?_
    refine lv_goto (tgt := 29) hx hb dX0_memorySwr_25 (by decide) ?_
    refine W.widen (k := 0) (n := 0) (Nat.le_of_ble_eq_true rfl) (Nat.le_of_ble_eq_true rfl) ?_
    exact hret _ _ _ _ _ _ hf dX0_memorySwr_29 hP hD hS
