/-! failureDepth, failureKind, failureValue -/
set_option maxRecDepth 100000
set_option maxHeartbeats 4000000
theorem MFs.keep {ch : List (Nat × Nat × Int32)} {H H1 : Heap} (h : MFs ch H) (hk : MKp H H1) : MFs ch H1 := fun x hx => (h x hx).keep hk
theorem tX0_failureDepth (l : Launch) (D : va_G) (d : Nat → ClassId) (z : ZT) (b : Nat → Nat) (μ : XT) (ch : List (Nat × Nat × Int32)) (hch : Chn μ.2 ch (μ.1.2.2.2.2 6 0)) (hlen : ch.length < 1000) : CIm l yX0_failureDepth (ws_ yX0_failureDepth cX0_failureDepth 3 (Option.some Jvm.ClassFile.FieldType.int)) (rmc 1 0 0 20) D d z [.ref (b 0)] (XW d z b μ.1 ++ μ.2) (Int32.ofNat ch.length) (XW d z b μ.1 ++ μ.2) (MFs ch) := by
  refine CIm.of (own := RX0) rfl (by decide) (Nat.le_of_ble_eq_true rfl) rfl ?_
  intro p e s m args below meth c A Q ls S hK hP hD hZ hS hA hl hMF hret0
  have hx := S.1
  have hb := S.2.1
  have hts := S.2.2.2.2
  have hl : lv_has ls 3 [(0, .ref (b 0))] := hl
  have L16 : ∀ (t : List (Nat × Nat × Int32)) (h : Option Nat) (k : Nat) (H : Heap) (locs : List Loc) (ls : Array Slot), Chn μ.2 t h → MFs t H → k + t.length = ch.length → va_P D CL (XW d z b μ.1 ++ μ.2) H → va_D A (XW d z b μ.1 ++ μ.2) → va_S A s.heap H locs → lv_has ls 3 [(2, va_rf h), (1, .int (Int32.ofNat k)), (0, .ref (b 0))] → W p l e (rmc 1 0 0 20) s m args below meth c H locs 0 0 Q (F0 m 16 ls []) := by
    intro t
    induction t with
    | nil =>
      intro h k H locs ls hc hmf hk hP hD hS hl
      obtain rfl : h = none := hc
      refine lv_aload_nN hx hb dX0_failureDepth_16 rfl (lv_at hl 0 rfl) ?_
      refine lv_ifnullN (tgt := 31) hx hb dX0_failureDepth_17 (by decide) ?_
      refine lv_iload_n hx hb dX0_failureDepth_31 rfl (lv_at hl 1 rfl) ?_
      have h8 := hret0 H locs 32 ls dX0_failureDepth_32 hP hD hS
      rw [← hk] at h8
      exact h8
    | cons x t ih =>
      intro h k H locs ls hc hmf hk hP hD hS hl
      obtain ⟨rfl, hci, nx, hm, hne, hc'⟩ := hc
      have hk' : (k + 1) + t.length = ch.length := by rw [← hk, List.length_cons]; omega
      have e1 : Int32.ofNat k + 1 = Int32.ofNat (k + 1) := by
        apply Int32.toInt_inj.mp
        have e2 : (1 : Int32).toInt = 1 := rfl
        rw [Int32.toInt_add, e2, Int32.toInt_ofNat_of_lt (by omega), Int32.toInt_ofNat_of_lt (by omega)]
        exact Int.bmod_eq_of_le (by omega) (by omega)
      refine lv_aload_n hx hb dX0_failureDepth_16 rfl (lv_at hl 0 rfl) ?_
      refine lv_ifnull hx hb dX0_failureDepth_17 ?_
      refine lv_iinc (v := Int32.ofNat k + 1) (lv' := [(1, .int (Int32.ofNat k + 1)), (2, .ref x.1), (0, .ref (b 0))]) hx hb dX0_failureDepth_20 hl (k := 1) rfl rfl (by decide) rfl (fun ls hl => ?_)
      rw [e1] at hl
      refine lv_aload_n hx hb dX0_failureDepth_23 rfl (lv_at hl 1 rfl) ?_
      refine g_gc S hK hP hci (List.mem_append_right _ hm) (hmf x List.mem_cons_self) hne hl.1 (Nat.zero_le _) (Nat.le_refl _) (Nat.le_refl _) (Nat.le_refl _) (Nat.le_refl _) dX0_failureDepth_24 ?_
      have hmf' : MFs t H := fun y hy => hmf y (List.mem_cons_of_mem _ hy)
      cases nx with
      | none =>
        refine lv_astore_nN (lv' := [(2, .null), (1, .int (Int32.ofNat (k + 1))), (0, .ref (b 0))]) hx hb dX0_failureDepth_27 rfl hl (by decide) rfl (fun ls hl => ?_)
        refine lv_goto (tgt := 16) hx hb dX0_failureDepth_28 (by decide) ?_
        exact ih none (k + 1) H locs ls hc' hmf' hk' hP hD hS hl
      | some q2 =>
        refine lv_astore_n (lv' := [(2, .ref q2), (1, .int (Int32.ofNat (k + 1))), (0, .ref (b 0))]) hx hb dX0_failureDepth_27 rfl hl (by decide) rfl (fun ls hl => ?_)
        refine lv_goto (tgt := 16) hx hb dX0_failureDepth_28 (by decide) ?_
        exact ih (some q2) (k + 1) H locs ls hc' hmf' hk' hP hD hS hl
  refine lv_aload_n hx hb dX0_failureDepth_0 rfl (lv_at hl 0 rfl) ?_
  refine run_iM (w := XW d z b μ.1) (tl := μ.2) (wr := [(b 17, .inr (18, [.int (μ.1.1 70), .ref (b 18), .int (μ.1.1 72)])), (b 18, .inl (d 4, 16, .inr (.inr (.inr (.inr (μ.1.2.2.2.2 18)))))), (b 16, .inr (17, [.ref (b 19), .int (μ.1.1 81), .int (μ.1.1 82)])), (b 19, .inl (d 4, 17, .inr (.inr (.inr (.inr (μ.1.2.2.2.2 19))))))]) (w' := XW d z b μ.1) (va_runV (As := []) (rest := []) S (keI (tX0_isReady l D d z b (μ.1.2.2.2.2 6 0) 0 μ.1 true μ.1 rfl _) s.heap) (cwV 0 hts (lw_V q857 q859 qs18 q94 q860) rfl rfl rfl (by decide +kernel) ⟨(Nat.le_of_ble_eq_true rfl), (Nat.le_of_ble_eq_true rfl)⟩) ⟨kbl Pw.blind, (va_recv hK.1 hP (ci := 1) (q0 := 0) rfl rfl), fun U hU hW => ⟨Pw.cut (w := XW d z b μ.1) (tl := μ.2) hK hP hD hZ hS hA [0, 1, 2, 3, 4, 5, 6, 7, 8, 9, 10, 11, 12, 13, 14, 15] rfl rfl hU hW, hU⟩⟩ rfl rfl hl.1 rfl (lv_room (Nat.le_of_ble_eq_true rfl)) dX0_failureDepth_1 ⟨(Nat.le_of_ble_eq_true rfl), (Nat.le_of_ble_eq_true rfl)⟩) hP hD hS hA [0, 1, 2, 3, 4, 5, 6, 7, 8, 9, 10, 11, 12, 13, 14, 15] [16, 17, 18, 19] [4, 5, 6, 7, 8, 9, 10, 11, 12, 13, 14, 15, 16, 17, 18, 19, 0, 1, 2, 3] rfl rfl rfl rfl (by decide) rfl rfl ?_
  clear hP hD hS
  intro H locs hP hD hS hk
  replace hMF := hMF.keep hk
  refine lv_if_ne (tgt := 9) hx hb dX0_failureDepth_4 (by decide) (fun hc => ?_) (fun hc => absurd hc (by decide))
  refine lv_iconst (v := 0) hx hb dX0_failureDepth_9 (by decide) ?_
  refine lv_istore_n (lv' := [(1, .int (0 : Int32)), (0, .ref (b 0))]) hx hb dX0_failureDepth_10 rfl hl (by decide) rfl (fun ls hl => ?_)
  refine lv_aload_n hx hb dX0_failureDepth_11 rfl (lv_at hl 1 rfl) ?_
  refine g_get hx hb hts S.2.2.2.1 hK hP in_X0 0 rfl rfl 6 (by decide) q288 (fun _ h9 => h9) (v := va_rf (μ.1.2.2.2.2 6 0)) rfl dX0_failureDepth_12 ?_
  generalize hh : μ.1.2.2.2.2 6 0 = h at hch
  cases h with
  | none =>
    refine lv_astore_nN (lv' := [(2, .null), (1, .int (0 : Int32)), (0, .ref (b 0))]) hx hb dX0_failureDepth_15 rfl hl (by decide) rfl (fun ls hl => ?_)
    exact L16 ch none 0 H locs ls hch hMF (Nat.zero_add _) hP hD hS hl
  | some q0 =>
    refine lv_astore_n (lv' := [(2, .ref q0), (1, .int (0 : Int32)), (0, .ref (b 0))]) hx hb dX0_failureDepth_15 rfl hl (by decide) rfl (fun ls hl => ?_)
    exact L16 ch (some q0) 0 H locs ls hch hMF (Nat.zero_add _) hP hD hS hl
theorem tX0_failureKind (l : Launch) (D : va_G) (d : Nat → ClassId) (z : ZT) (b : Nat → Nat) (i : Int32) (μ : XT) (ch : List (Nat × Nat × Int32)) (hch : Chn μ.2 ch (μ.1.2.2.2.2 6 0)) : CIm l yX0_failureKind (ws_ yX0_failureKind cX0_failureKind 3 (Option.some Jvm.ClassFile.FieldType.int)) (rmc 2 0 0 43) D d z [.ref (b 0), .int i] (XW d z b μ.1 ++ μ.2) (((lnk ch i).map (fun x => knd x.2.1)).getD (-1)) (XW d z b μ.1 ++ μ.2) (MFs ch) := by
  refine CIm.of (own := RX0) rfl (by decide) (Nat.le_of_ble_eq_true rfl) rfl ?_
  intro p e s m args below meth c A Q ls S hK hP hD hZ hS hA hl hMF hret0
  have hx := S.1
  have hb := S.2.1
  have hts := S.2.2.2.2
  have hl : lv_has ls 3 [(0, .ref (b 0)), (1, .int i)] := hl
  refine lv_aload_n hx hb dX0_failureKind_0 rfl (lv_at hl 0 rfl) ?_
  refine run_iM (w := XW d z b μ.1) (tl := μ.2) (wr := [(b 17, .inr (18, [.int (μ.1.1 70), .ref (b 18), .int (μ.1.1 72)])), (b 18, .inl (d 4, 16, .inr (.inr (.inr (.inr (μ.1.2.2.2.2 18)))))), (b 16, .inr (17, [.ref (b 19), .int (μ.1.1 81), .int (μ.1.1 82)])), (b 19, .inl (d 4, 17, .inr (.inr (.inr (.inr (μ.1.2.2.2.2 19))))))]) (w' := XW d z b μ.1) (va_runV (As := []) (rest := []) S (keI (tX0_isReady l D d z b (μ.1.2.2.2.2 6 0) 0 μ.1 true μ.1 rfl _) s.heap) (cwV 0 hts (lw_V q857 q859 qs18 q94 q860) rfl rfl rfl (by decide +kernel) ⟨(Nat.le_of_ble_eq_true rfl), (Nat.le_of_ble_eq_true rfl)⟩) ⟨kbl Pw.blind, (va_recv hK.1 hP (ci := 1) (q0 := 0) rfl rfl), fun U hU hW => ⟨Pw.cut (w := XW d z b μ.1) (tl := μ.2) hK hP hD hZ hS hA [0, 1, 2, 3, 4, 5, 6, 7, 8, 9, 10, 11, 12, 13, 14, 15] rfl rfl hU hW, hU⟩⟩ rfl rfl hl.1 rfl (lv_room (Nat.le_of_ble_eq_true rfl)) dX0_failureKind_1 ⟨(Nat.le_of_ble_eq_true rfl), (Nat.le_of_ble_eq_true rfl)⟩) hP hD hS hA [0, 1, 2, 3, 4, 5, 6, 7, 8, 9, 10, 11, 12, 13, 14, 15] [16, 17, 18, 19] [4, 5, 6, 7, 8, 9, 10, 11, 12, 13, 14, 15, 16, 17, 18, 19, 0, 1, 2, 3] rfl rfl rfl rfl (by decide) rfl rfl ?_
  clear hP hD hS
  intro H locs hP hD hS hk
  replace hMF := hMF.keep hk
  refine lv_if_eq (tgt := 15) hx hb dX0_failureKind_4 (by decide) (fun hc => absurd hc (by decide)) (fun hc => ?_)
  refine lv_aload_n hx hb dX0_failureKind_7 rfl (lv_at hl 0 rfl) ?_
  refine lv_iload_n hx hb dX0_failureKind_8 rfl (lv_at hl 1 rfl) ?_
  have hF := va_freeAll hD hS hA
  refine va_callq (va_runV (As := [.int i]) (rest := []) S (tX0_link l D d z b i μ ch hch H.size) (cwV 1 hts (lw_V q1470 q1472 qs44 q94 q1473) rfl rfl rfl (by decide +kernel) ⟨(Nat.le_of_ble_eq_true rfl), (Nat.le_of_ble_eq_true rfl)⟩) ⟨fun a U g mk hp => ⟨Pw.blind a U g mk hp.1, hp.2⟩, (va_recv hK.1 hP (ci := 1) (q0 := 0) rfl rfl), fun U hU hW => ⟨Pw.at hK hP hD hZ hS hA hU hW, by rw [hU]; exact hMF⟩⟩ rfl rfl hl.1 rfl (lv_room (Nat.le_of_ble_eq_true rfl)) dX0_failureKind_9 ⟨(Nat.le_of_ble_eq_true rfl), (Nat.le_of_ble_eq_true rfl)⟩) hS (fun q _ h => hF q h) hF (fun r1 u t H1 locs1 ht hvm hp hB hz hk1 hS1 => ?_)
  subst hp
  replace hP : va_P D CL (XW d z b μ.1 ++ μ.2) H1 := by rw [← ht]; exact hB.1
  replace hD : va_D A (XW d z b μ.1 ++ μ.2) := hB.2.weaken (fun _ q _ h => hF q.1 h)
  clear hB hF hS hMF hk hk1 ht
  refine lv_goto (tgt := 16) hx hb dX0_failureKind_12 (by decide) ?_
  have hmem : ∀ x, lnk ch i = some x → x ∈ ch := fun x hx9 => by
    unfold lnk at hx9
    split at hx9
    · cases hx9
    · exact List.mem_of_getElem? hx9
  generalize hlk : lnk ch i = o at hret0 hmem ⊢
  cases o with
  | none =>
    refine lv_astore_nN (lv' := [(2, .null), (0, .ref (b 0)), (1, .int i)]) hx hb dX0_failureKind_16 rfl hl (by decide) rfl (fun ls hl => ?_)
    refine lv_aload_nN hx hb dX0_failureKind_17 rfl (lv_at hl 0 rfl) ?_
    refine lv_ifnonnullN hx hb dX0_failureKind_18 ?_
    refine lv_iconst (v := -1) hx hb dX0_failureKind_21 (by decide) ?_
    refine lv_goto (tgt := 29) hx hb dX0_failureKind_22 (by decide) ?_
    exact hret0 _ _ _ _ dX0_failureKind_29 hP hD hS1
  | some x =>
    obtain ⟨hci, nx, hm⟩ := hch.mem x (hmem x rfl)
    refine lv_astore_n (lv' := [(2, .ref x.1), (0, .ref (b 0)), (1, .int i)]) hx hb dX0_failureKind_16 rfl hl (by decide) rfl (fun ls hl => ?_)
    refine lv_aload_n hx hb dX0_failureKind_17 rfl (lv_at hl 0 rfl) ?_
    refine lv_ifnonnull (tgt := 25) hx hb dX0_failureKind_18 (by decide) ?_
    refine lv_aload_n hx hb dX0_failureKind_25 rfl (lv_at hl 0 rfl) ?_
    refine g_kind S hK hP hD hZ hS1 hA hci (List.mem_append_right _ hm) hl.1 (Nat.zero_le _) (Nat.le_of_ble_eq_true rfl) (Nat.le_of_ble_eq_true rfl) (Nat.le_of_ble_eq_true rfl) (Nat.le_of_ble_eq_true rfl) dX0_failureKind_26 (fun H2 locs2 hP2 hD2 hS2 => ?_)
    exact hret0 _ _ _ _ dX0_failureKind_29 hP2 hD2 hS2
theorem tX0_failureValue (l : Launch) (D : va_G) (d : Nat → ClassId) (z : ZT) (b : Nat → Nat) (i : Int32) (μ : XT) (ch : List (Nat × Nat × Int32)) (hch : Chn μ.2 ch (μ.1.2.2.2.2 6 0)) : CIm l yX0_failureValue (ws_ yX0_failureValue cX0_failureValue 3 (Option.some Jvm.ClassFile.FieldType.int)) (rmc 2 0 0 43) D d z [.ref (b 0), .int i] (XW d z b μ.1 ++ μ.2) (((lnk ch i).map (fun x => x.2.2)).getD (-1)) (XW d z b μ.1 ++ μ.2) (MFs ch) := by
  refine CIm.of (own := RX0) rfl (by decide) (Nat.le_of_ble_eq_true rfl) rfl ?_
  intro p e s m args below meth c A Q ls S hK hP hD hZ hS hA hl hMF hret0
  have hx := S.1
  have hb := S.2.1
  have hts := S.2.2.2.2
  have hl : lv_has ls 3 [(0, .ref (b 0)), (1, .int i)] := hl
  refine lv_aload_n hx hb dX0_failureValue_0 rfl (lv_at hl 0 rfl) ?_
  refine run_iM (w := XW d z b μ.1) (tl := μ.2) (wr := [(b 17, .inr (18, [.int (μ.1.1 70), .ref (b 18), .int (μ.1.1 72)])), (b 18, .inl (d 4, 16, .inr (.inr (.inr (.inr (μ.1.2.2.2.2 18)))))), (b 16, .inr (17, [.ref (b 19), .int (μ.1.1 81), .int (μ.1.1 82)])), (b 19, .inl (d 4, 17, .inr (.inr (.inr (.inr (μ.1.2.2.2.2 19))))))]) (w' := XW d z b μ.1) (va_runV (As := []) (rest := []) S (keI (tX0_isReady l D d z b (μ.1.2.2.2.2 6 0) 0 μ.1 true μ.1 rfl _) s.heap) (cwV 0 hts (lw_V q857 q859 qs18 q94 q860) rfl rfl rfl (by decide +kernel) ⟨(Nat.le_of_ble_eq_true rfl), (Nat.le_of_ble_eq_true rfl)⟩) ⟨kbl Pw.blind, (va_recv hK.1 hP (ci := 1) (q0 := 0) rfl rfl), fun U hU hW => ⟨Pw.cut (w := XW d z b μ.1) (tl := μ.2) hK hP hD hZ hS hA [0, 1, 2, 3, 4, 5, 6, 7, 8, 9, 10, 11, 12, 13, 14, 15] rfl rfl hU hW, hU⟩⟩ rfl rfl hl.1 rfl (lv_room (Nat.le_of_ble_eq_true rfl)) dX0_failureValue_1 ⟨(Nat.le_of_ble_eq_true rfl), (Nat.le_of_ble_eq_true rfl)⟩) hP hD hS hA [0, 1, 2, 3, 4, 5, 6, 7, 8, 9, 10, 11, 12, 13, 14, 15] [16, 17, 18, 19] [4, 5, 6, 7, 8, 9, 10, 11, 12, 13, 14, 15, 16, 17, 18, 19, 0, 1, 2, 3] rfl rfl rfl rfl (by decide) rfl rfl ?_
  clear hP hD hS
  intro H locs hP hD hS hk
  replace hMF := hMF.keep hk
  refine lv_if_eq (tgt := 15) hx hb dX0_failureValue_4 (by decide) (fun hc => absurd hc (by decide)) (fun hc => ?_)
  refine lv_aload_n hx hb dX0_failureValue_7 rfl (lv_at hl 0 rfl) ?_
  refine lv_iload_n hx hb dX0_failureValue_8 rfl (lv_at hl 1 rfl) ?_
  have hF := va_freeAll hD hS hA
  refine va_callq (va_runV (As := [.int i]) (rest := []) S (tX0_link l D d z b i μ ch hch H.size) (cwV 1 hts (lw_V q1470 q1472 qs44 q94 q1473) rfl rfl rfl (by decide +kernel) ⟨(Nat.le_of_ble_eq_true rfl), (Nat.le_of_ble_eq_true rfl)⟩) ⟨fun a U g mk hp => ⟨Pw.blind a U g mk hp.1, hp.2⟩, (va_recv hK.1 hP (ci := 1) (q0 := 0) rfl rfl), fun U hU hW => ⟨Pw.at hK hP hD hZ hS hA hU hW, by rw [hU]; exact hMF⟩⟩ rfl rfl hl.1 rfl (lv_room (Nat.le_of_ble_eq_true rfl)) dX0_failureValue_9 ⟨(Nat.le_of_ble_eq_true rfl), (Nat.le_of_ble_eq_true rfl)⟩) hS (fun q _ h => hF q h) hF (fun r1 u t H1 locs1 ht hvm hp hB hz hk1 hS1 => ?_)
  subst hp
  replace hP : va_P D CL (XW d z b μ.1 ++ μ.2) H1 := by rw [← ht]; exact hB.1
  replace hD : va_D A (XW d z b μ.1 ++ μ.2) := hB.2.weaken (fun _ q _ h => hF q.1 h)
  clear hB hF hS hMF hk hk1 ht
  refine lv_goto (tgt := 16) hx hb dX0_failureValue_12 (by decide) ?_
  have hmem : ∀ x, lnk ch i = some x → x ∈ ch := fun x hx9 => by
    unfold lnk at hx9
    split at hx9
    · cases hx9
    · exact List.mem_of_getElem? hx9
  generalize hlk : lnk ch i = o at hret0 hmem ⊢
  cases o with
  | none =>
    refine lv_astore_nN (lv' := [(2, .null), (0, .ref (b 0)), (1, .int i)]) hx hb dX0_failureValue_16 rfl hl (by decide) rfl (fun ls hl => ?_)
    refine lv_aload_nN hx hb dX0_failureValue_17 rfl (lv_at hl 0 rfl) ?_
    refine lv_ifnonnullN hx hb dX0_failureValue_18 ?_
    refine lv_iconst (v := -1) hx hb dX0_failureValue_21 (by decide) ?_
    refine lv_goto (tgt := 29) hx hb dX0_failureValue_22 (by decide) ?_
    exact hret0 _ _ _ _ dX0_failureValue_29 hP hD hS1
  | some x =>
    obtain ⟨hci, nx, hm⟩ := hch.mem x (hmem x rfl)
    refine lv_astore_n (lv' := [(2, .ref x.1), (0, .ref (b 0)), (1, .int i)]) hx hb dX0_failureValue_16 rfl hl (by decide) rfl (fun ls hl => ?_)
    refine lv_aload_n hx hb dX0_failureValue_17 rfl (lv_at hl 0 rfl) ?_
    refine lv_ifnonnull (tgt := 25) hx hb dX0_failureValue_18 (by decide) ?_
    refine lv_aload_n hx hb dX0_failureValue_25 rfl (lv_at hl 0 rfl) ?_
    have hgo : W p l e (rmc 2 0 0 43) s m args below meth c H1 locs1 (0 + 0) (0 + 0) Q (F0 m 29 ls [.int x.2.2]) := hret0 _ _ _ _ dX0_failureValue_29 hP hD hS1
    obtain ⟨q9, ci, v9⟩ := x
    dsimp only at hci hm hgo ⊢
    rcases (show ci = 10 ∨ ci = 11 ∨ ci = 12 ∨ ci = 13 ∨ ci = 14 ∨ ci = 15 by omega) with rfl | rfl | rfl | rfl | rfl | rfl
    · exact g_getMN (w := XW d z b μ.1) (tl := μ.2) hx hb hts S.2.2.2.1 hK hP in_X11 hm rfl 0 (by decide) q1319 (fun _ h9 => h9) (v := .int v9) rfl dX0_failureValue_26 hgo
    · exact g_getMN (w := XW d z b μ.1) (tl := μ.2) hx hb hts S.2.2.2.1 hK hP in_X12 hm rfl 0 (by decide) q1319 (fun _ h9 => h9) (v := .int v9) rfl dX0_failureValue_26 hgo
    · exact g_getMN (w := XW d z b μ.1) (tl := μ.2) hx hb hts S.2.2.2.1 hK hP in_X13 hm rfl 0 (by decide) q1319 (fun _ h9 => h9) (v := .int v9) rfl dX0_failureValue_26 hgo
    · exact g_getMN (w := XW d z b μ.1) (tl := μ.2) hx hb hts S.2.2.2.1 hK hP in_X14 hm rfl 0 (by decide) q1319 (fun _ h9 => h9) (v := .int v9) rfl dX0_failureValue_26 hgo
    · exact g_getMN (w := XW d z b μ.1) (tl := μ.2) hx hb hts S.2.2.2.1 hK hP in_X15 hm rfl 0 (by decide) q1319 (fun _ h9 => h9) (v := .int v9) rfl dX0_failureValue_26 hgo
    · exact g_getMN (w := XW d z b μ.1) (tl := μ.2) hx hb hts S.2.2.2.1 hK hP in_X16 hm rfl 0 (by decide) q1319 (fun _ h9 => h9) (v := .int v9) rfl dX0_failureValue_26 hgo
