/-! texts: String constants, the reference's text methods -/
set_option maxRecDepth 100000
def chr (x : Int32) : Int32 := (x.toUInt32 % 65536).toInt32
theorem chr_nar (x : Int32) : narrow .char (.int (chr x)) = .int (chr x) := pk_nc x
def byt (x : Int32) : Int32 := x.toInt8.toInt32
theorem byt_nar (x : Int32) : narrow .byte (.int (byt x)) = .int (byt x) := pk_nb x
def fJ5_coder (K : Nat) (i0 : Nat) : Option Int32 :=
  if (1 : Int32) = 0 then
    some (1 : Int32)
  else
    some (0 : Int32)
set_option maxHeartbeats 4000000 in
set_option maxRecDepth 100000 in
theorem tJ5_coder (l : Launch) (D : va_G) (d : Nat → ClassId) (z : ZT) (K : Nat) (i0 : Nat) (hi0 : i0 < 6) (r : Int32) (hf : fJ5_coder K i0 = some r) : CI l yJ5_coder (ws_ yJ5_coder cJ5_coder 1 (Option.some Jvm.ClassFile.FieldType.byte)) (rmc 0 0 0 0) D d z [.ref (z.1 i0)] ([]) (byt r) ([]) := by
  refine CI.of2 (own := RJ5) rfl (by decide) (Nat.le_of_ble_eq_true rfl) (byt_nar r) ?_
  intro p e s m args below meth c A Q ls S hin hK hP hD hZ hS hA hl hret0
  have hret : ∀ (x : Int32) (H : Heap) (locs : List Loc) (pc : Nat) (ls' : Array Slot), some x = some r → decode cJ5_coder pc = .ok (.ireturn, 1) → va_P D CL ([]) H → va_D A ([]) → va_S A s.heap H locs → W p l e (rmc 0 0 0 0) s m args below meth c H locs 0 0 Q (F0 m pc ls' [.int (byt x)]) := by
    intro x H locs pc ls' h9 hdg hP hD hS
    obtain rfl := so_1 h9
    exact hret0 H locs pc ls' hdg hP hD hS
  have hx := S.1
  have hb := S.2.1
  have hts := S.2.2.2.2
  have hl : lv_has ls 1 [(0, .ref (z.1 i0))] := hl
  unfold fJ5_coder at hf
  refine va_gets hx hb hZ.1 hS S.2.2.2.1 (hts _ q622) (fun _ h9 => h9) dJ5_coder_0 ?_
  refine lv_if_eq (tgt := 13) hx hb dJ5_coder_3 (by decide) (fun c_1 => ?_) (fun c_1 => ?_)
  · replace hf := it_t hf c_1
    clear c_1
    refine lv_iconst (v := 1) hx hb dJ5_coder_13 (by decide) ?_
    refine W.widen (k := 0) (n := 0) (Nat.le_of_ble_eq_true rfl) (Nat.le_of_ble_eq_true rfl) ?_
    exact hret _ _ _ _ _ hf dJ5_coder_14 hP hD hS
  · replace hf := it_f hf c_1
    clear c_1
    refine lv_aload_n hx hb dJ5_coder_6 rfl (lv_at hl 0 rfl) ?_
    refine vk_getf hx hb (hZ.2.2.2.2.1.1 i0 hi0).2.1 hS S.2.2.2.1 (hts _ q637) (fun _ h9 => h9) dJ5_coder_7 ?_
    refine lv_goto (tgt := 14) hx hb dJ5_coder_10 (by decide) ?_
    refine W.widen (k := 0) (n := 0) (Nat.le_of_ble_eq_true rfl) (Nat.le_of_ble_eq_true rfl) ?_
    exact hret _ _ _ _ _ hf dJ5_coder_14 hP hD hS
def fJ5_isLatin1 (K : Nat) (i0 : Nat) : Option Bool :=
  if (1 : Int32) = 0 then
    some false
  else
    if (0 : Int32) = 0 then
      some true
    else
      some false
set_option maxHeartbeats 4000000 in
set_option maxRecDepth 100000 in
theorem tJ5_isLatin1 (l : Launch) (D : va_G) (d : Nat → ClassId) (z : ZT) (K : Nat) (i0 : Nat) (hi0 : i0 < 6) (r : Bool) (hf : fJ5_isLatin1 K i0 = some r) : CI l yJ5_isLatin1 (ws_ yJ5_isLatin1 cJ5_isLatin1 1 (Option.some Jvm.ClassFile.FieldType.boolean)) (rmc 0 0 0 0) D d z [.ref (z.1 i0)] ([]) (bi r) ([]) := by
  refine CI.of2 (own := RJ5) rfl (by decide) (Nat.le_of_ble_eq_true rfl) (bi_nar r) ?_
  intro p e s m args below meth c A Q ls S hin hK hP hD hZ hS hA hl hret0
  have hret : ∀ (x : Bool) (H : Heap) (locs : List Loc) (pc : Nat) (ls' : Array Slot), some x = some r → decode cJ5_isLatin1 pc = .ok (.ireturn, 1) → va_P D CL ([]) H → va_D A ([]) → va_S A s.heap H locs → W p l e (rmc 0 0 0 0) s m args below meth c H locs 0 0 Q (F0 m pc ls' [.int (bi x)]) := by
    intro x H locs pc ls' h9 hdg hP hD hS
    obtain rfl := so_1 h9
    exact hret0 H locs pc ls' hdg hP hD hS
  have hx := S.1
  have hb := S.2.1
  have hts := S.2.2.2.2
  have hl : lv_has ls 1 [(0, .ref (z.1 i0))] := hl
  unfold fJ5_isLatin1 at hf
  refine va_gets hx hb hZ.1 hS S.2.2.2.1 (hts _ q622) (fun _ h9 => h9) dJ5_isLatin1_0 ?_
  refine lv_if_eq (tgt := 17) hx hb dJ5_isLatin1_3 (by decide) (fun c_1 => ?_) (fun c_1 => ?_)
  · replace hf := it_t hf c_1
    clear c_1
    refine lv_iconst (v := 0) hx hb dJ5_isLatin1_17 (by decide) ?_
    refine W.widen (k := 0) (n := 0) (Nat.le_of_ble_eq_true rfl) (Nat.le_of_ble_eq_true rfl) ?_
    exact hret _ _ _ _ _ hf dJ5_isLatin1_18 hP hD hS
  · replace hf := it_f hf c_1
    clear c_1
    refine lv_aload_n hx hb dJ5_isLatin1_6 rfl (lv_at hl 0 rfl) ?_
    refine vk_getf hx hb (hZ.2.2.2.2.1.1 i0 hi0).2.1 hS S.2.2.2.1 (hts _ q637) (fun _ h9 => h9) dJ5_isLatin1_7 ?_
    refine lv_if_ne (tgt := 17) hx hb dJ5_isLatin1_10 (by decide) (fun c_2 => ?_) (fun c_2 => ?_)
    · replace hf := it_f hf c_2
      clear c_2
      refine lv_iconst (v := 0) hx hb dJ5_isLatin1_17 (by decide) ?_
      refine W.widen (k := 0) (n := 0) (Nat.le_of_ble_eq_true rfl) (Nat.le_of_ble_eq_true rfl) ?_
      exact hret _ _ _ _ _ hf dJ5_isLatin1_18 hP hD hS
    · replace hf := it_t hf c_2
      clear c_2
      refine lv_iconst (v := 1) hx hb dJ5_isLatin1_13 (by decide) ?_
      refine lv_goto (tgt := 18) hx hb dJ5_isLatin1_14 (by decide) ?_
      refine W.widen (k := 0) (n := 0) (Nat.le_of_ble_eq_true rfl) (Nat.le_of_ble_eq_true rfl) ?_
      exact hret _ _ _ _ _ hf dJ5_isLatin1_18 hP hD hS
def fJ5_length (K : Nat) (i0 : Nat) : Option Int32 :=
  b1 (fJ5_coder K i0) fun r_2 =>
  some ((nI (zlen.getD i0 0)) >>> ((byt r_2) &&& 31))
set_option maxHeartbeats 4000000 in
set_option maxRecDepth 100000 in
theorem tJ5_length (l : Launch) (D : va_G) (d : Nat → ClassId) (z : ZT) (K : Nat) (i0 : Nat) (hi0 : i0 < 6) (r : Int32) (hf : fJ5_length K i0 = some r) : CI l yJ5_length (ws_ yJ5_length cJ5_length 1 (Option.some Jvm.ClassFile.FieldType.int)) (rmc 1 0 0 20) D d z [.ref (z.1 i0)] ([]) r ([]) := by
  refine CI.of2 (own := RJ5) rfl (by decide) (Nat.le_of_ble_eq_true rfl) rfl ?_
  intro p e s m args below meth c A Q ls S hin hK hP hD hZ hS hA hl hret0
  have hret : ∀ (x : Int32) (H : Heap) (locs : List Loc) (pc : Nat) (ls' : Array Slot), some x = some r → decode cJ5_length pc = .ok (.ireturn, 1) → va_P D CL ([]) H → va_D A ([]) → va_S A s.heap H locs → W p l e (rmc 1 0 0 20) s m args below meth c H locs 0 0 Q (F0 m pc ls' [.int x]) := by
    intro x H locs pc ls' h9 hdg hP hD hS
    obtain rfl := so_1 h9
    exact hret0 H locs pc ls' hdg hP hD hS
  have hx := S.1
  have hb := S.2.1
  have hts := S.2.2.2.2
  have hl : lv_has ls 1 [(0, .ref (z.1 i0))] := hl
  unfold fJ5_length at hf
  refine lv_aload_n hx hb dJ5_length_0 rfl (lv_at hl 0 rfl) ?_
  refine vk_getf hx hb (hZ.2.2.2.2.1.1 i0 hi0).2.2.1 hS S.2.2.2.1 (hts _ q636) (fun _ h9 => h9) dJ5_length_1 ?_
  refine va_tlen hx hb (hZ.2.2.2.2.1.1 i0 hi0).2.2.2 hS (v := nI (zlen.getD i0 0)) rfl dJ5_length_4 ?_
  refine lv_aload_n hx hb dJ5_length_5 rfl (lv_at hl 0 rfl) ?_
  obtain ⟨r_2, h_1, hf⟩ := b1_some hf
  refine run_iE (va_runV (As := []) (rest := [.int (nI (zlen.getD i0 0))]) S (tJ5_coder l D d z K i0 hi0 r_2 h_1 _) (cwV 0 hts (lw_V q1811 q1812 q1813 q106 q1814) rfl rfl rfl (by decide +kernel) ⟨(Nat.le_of_ble_eq_true rfl), (Nat.le_of_ble_eq_true rfl)⟩) ⟨Pw.blind, (vk_recv hZ.2.2.2.2.1 hi0 hS), fun U hU hW => Pw.cut (w := []) (tl := _) hK hP hD hZ hS hA [] rfl rfl hU hW⟩ rfl rfl hl.1 rfl (lv_room (Nat.le_of_ble_eq_true rfl)) dJ5_length_6 ⟨(Nat.le_of_ble_eq_true rfl), (Nat.le_of_ble_eq_true rfl)⟩) hP hD hS hA ?_
  clear hP hD hS
  intro H locs hP hD hS
  clear h_1
  refine lv_ishr hx hb dJ5_length_9 ?_
  refine W.widen (k := 0) (n := 0) (Nat.le_of_ble_eq_true rfl) (Nat.le_of_ble_eq_true rfl) ?_
  exact hret _ _ _ _ _ hf dJ5_length_10 hP hD hS
def fJ10_checkIndex (K : Nat) (p0 : Int32) (p1 : Int32) : Option Int32 :=
  if p0 < 0 then
    none
  else
    if p0 < p1 then
      some p0
    else
      none
set_option maxHeartbeats 4000000 in
set_option maxRecDepth 100000 in
theorem tJ10_checkIndex (l : Launch) (K : Nat) (p0 : Int32) (p1 : Int32) (o2 : Nat) (r : Int32) (hf : fJ10_checkIndex K p0 p1 = some r) : SI l yJ10_checkIndex (ws_ yJ10_checkIndex cJ10_checkIndex 3 (Option.some Jvm.ClassFile.FieldType.int)) 0 0 [.int p0, .int p1, .ref o2] r := by
  refine sI_of (own := RJ10) rfl (by decide) (Nat.le_of_ble_eq_true rfl) ?_
  intro p e s m args below meth c Q ls S hl hret
  have hx := S.1
  have hb := S.2.1
  have hts := S.2.2.2.2
  have hl : lv_has ls 3 [(0, .int p0), (1, .int p1), (2, .ref o2)] := hl
  unfold fJ10_checkIndex at hf
  refine lv_iload_n hx hb dJ10_checkIndex_0 rfl (lv_at hl 0 rfl) ?_
  refine lv_if_lt (tgt := 9) hx hb dJ10_checkIndex_1 (by decide) (fun c_1 => ?_) (fun c_1 => ?_)
  · replace hf := it_t hf c_1
    clear c_1
    cases hf
  · replace hf := it_f hf c_1
    clear c_1
    refine lv_iload_n hx hb dJ10_checkIndex_4 rfl (lv_at hl 0 rfl) ?_
    refine lv_iload_n hx hb dJ10_checkIndex_5 rfl (lv_at hl 1 rfl) ?_
    refine lv_icmp_lt (tgt := 16) hx hb dJ10_checkIndex_6 (by decide) (fun c_2 => ?_) (fun c_2 => ?_)
    · replace hf := it_t hf c_2
      clear c_2
      refine lv_iload_n hx hb dJ10_checkIndex_16 rfl (lv_at hl 0 rfl) ?_
      exact hret _ _ _ hf dJ10_checkIndex_17
    · replace hf := it_f hf c_2
      clear c_2
      cases hf
set_option maxHeartbeats 4000000 in
set_option maxRecDepth 100000 in
theorem tJ10_checkIndexn (l : Launch) (K : Nat) (p0 : Int32) (p1 : Int32) (r : Int32) (hf : fJ10_checkIndex K p0 p1 = some r) : SI l yJ10_checkIndex (ws_ yJ10_checkIndex cJ10_checkIndex 3 (Option.some Jvm.ClassFile.FieldType.int)) 0 0 [.int p0, .int p1, .null] r := by
  refine sI_of (own := RJ10) rfl (by decide) (Nat.le_of_ble_eq_true rfl) ?_
  intro p e s m args below meth c Q ls S hl hret
  have hx := S.1
  have hb := S.2.1
  have hts := S.2.2.2.2
  have hl : lv_has ls 3 [(0, .int p0), (1, .int p1), (2, .null)] := hl
  unfold fJ10_checkIndex at hf
  refine lv_iload_n hx hb dJ10_checkIndex_0 rfl (lv_at hl 0 rfl) ?_
  refine lv_if_lt (tgt := 9) hx hb dJ10_checkIndex_1 (by decide) (fun c_1 => ?_) (fun c_1 => ?_)
  · replace hf := it_t hf c_1
    clear c_1
    cases hf
  · replace hf := it_f hf c_1
    clear c_1
    refine lv_iload_n hx hb dJ10_checkIndex_4 rfl (lv_at hl 0 rfl) ?_
    refine lv_iload_n hx hb dJ10_checkIndex_5 rfl (lv_at hl 1 rfl) ?_
    refine lv_icmp_lt (tgt := 16) hx hb dJ10_checkIndex_6 (by decide) (fun c_2 => ?_) (fun c_2 => ?_)
    · replace hf := it_t hf c_2
      clear c_2
      refine lv_iload_n hx hb dJ10_checkIndex_16 rfl (lv_at hl 0 rfl) ?_
      exact hret _ _ _ hf dJ10_checkIndex_17
    · replace hf := it_f hf c_2
      clear c_2
      cases hf
def fJ5_checkIndex (K : Nat) (p0 : Int32) (p1 : Int32) : Option Unit :=
  b1 (fJ10_checkIndex K p0 p1) fun r_1 =>
  some ()
set_option maxHeartbeats 4000000 in
set_option maxRecDepth 100000 in
theorem tJ5_checkIndex (l : Launch) (D : va_G) (d : Nat → ClassId) (z : ZT) (K : Nat) (p0 : Int32) (p1 : Int32) (hf : fJ5_checkIndex K p0 p1 = some ()) : CV l yJ5_checkIndex (ws_ yJ5_checkIndex cJ5_checkIndex 2 (Option.none : Option Jvm.ClassFile.FieldType)) (rmc 1 0 0 22) D d z [.int p0, .int p1] ([]) ([]) := by
  refine CV.of2 (own := RJ5) rfl (by decide) (Nat.le_of_ble_eq_true rfl) ?_
  intro p e s m args below meth c A Q ls S hin hK hP hD hZ hS hA hl hret0
  have hret : ∀ (_ : Unit) (H : Heap) (locs : List Loc) (pc : Nat) (ls' : Array Slot), some () = some () → decode cJ5_checkIndex pc = .ok (.return_, 1) → va_P D CL ([]) H → va_D A ([]) → va_S A s.heap H locs → W p l e (rmc 1 0 0 22) s m args below meth c H locs 0 0 Q (F0 m pc ls' []) := by
    intro _ H locs pc ls' h9 hdg hP hD hS
    skip
    exact hret0 H locs pc ls' hdg hP hD hS
  have hx := S.1
  have hb := S.2.1
  have hts := S.2.2.2.2
  have hl : lv_has ls 2 [(0, .int p0), (1, .int p1)] := hl
  unfold fJ5_checkIndex at hf
  refine lv_iload_n hx hb dJ5_checkIndex_0 rfl (lv_at hl 0 rfl) ?_
  refine lv_iload_n hx hb dJ5_checkIndex_1 rfl (lv_at hl 1 rfl) ?_
  rcases hZ.2.2.2.1 with hsi | ⟨tsi, hsi⟩
  · refine va_gets hx hb hsi hS S.2.2.2.1 (hts _ q560) (fun _ h9 => h9) dJ5_checkIndex_2 ?_
    obtain ⟨r_1, h_2, hf⟩ := b1_some hf
    refine si_call S (tJ10_checkIndexn l K p0 p1 _ h_2) (va_cwS 3 hts (lw_S q583 q584 q112 q585) rfl rfl rfl (by decide +kernel) ⟨(Nat.le_of_ble_eq_true rfl), (Nat.le_of_ble_eq_true rfl)⟩) rfl hl.1 rfl (Nat.le_of_ble_eq_true rfl) ⟨(Nat.le_of_ble_eq_true rfl), (Nat.le_of_ble_eq_true rfl)⟩ dJ5_checkIndex_5 ?_
    clear h_2
    refine lv_pop hx hb dJ5_checkIndex_8 rfl ?_
    refine W.widen (k := 0) (n := 0) (Nat.le_of_ble_eq_true rfl) (Nat.le_of_ble_eq_true rfl) ?_
    exact hret () _ _ _ _ hf dJ5_checkIndex_9 hP hD hS
  · refine va_gets hx hb hsi hS S.2.2.2.1 (hts _ q560) (fun _ h9 => h9) dJ5_checkIndex_2 ?_
    obtain ⟨r_1, h_2, hf⟩ := b1_some hf
    refine si_call S (tJ10_checkIndex l K p0 p1 tsi _ h_2) (va_cwS 3 hts (lw_S q583 q584 q112 q585) rfl rfl rfl (by decide +kernel) ⟨(Nat.le_of_ble_eq_true rfl), (Nat.le_of_ble_eq_true rfl)⟩) rfl hl.1 rfl (Nat.le_of_ble_eq_true rfl) ⟨(Nat.le_of_ble_eq_true rfl), (Nat.le_of_ble_eq_true rfl)⟩ dJ5_checkIndex_5 ?_
    clear h_2
    refine lv_pop hx hb dJ5_checkIndex_8 rfl ?_
    refine W.widen (k := 0) (n := 0) (Nat.le_of_ble_eq_true rfl) (Nat.le_of_ble_eq_true rfl) ?_
    exact hret () _ _ _ _ hf dJ5_checkIndex_9 hP hD hS
def fJ9_charAt (K : Nat) (i0 : Nat) (p1 : Int32) : Option Int32 :=
  b1 (fJ5_checkIndex K p1 (nI (zlen.getD i0 0))) fun u_2 =>
  ga (ix p1 (zlen.getD i0 0)) <|
  some (((zbyt.getD i0 []).getD p1.toNatClampNeg 0) &&& (255 : Int32))
set_option maxHeartbeats 4000000 in
set_option maxRecDepth 100000 in
theorem tJ9_charAt (l : Launch) (D : va_G) (d : Nat → ClassId) (z : ZT) (K : Nat) (i0 : Nat) (hi0 : i0 < 6) (p1 : Int32) (r : Int32) (hf : fJ9_charAt K i0 p1 = some r) : CI l yJ9_charAt (ws_ yJ9_charAt cJ9_charAt 2 (Option.some Jvm.ClassFile.FieldType.char)) (rmc 2 0 0 43) D d z [.ref (z.2.1 i0), .int p1] ([]) (chr r) ([]) := by
  refine CI.of2 (own := RJ9) rfl (by decide) (Nat.le_of_ble_eq_true rfl) (chr_nar r) ?_
  intro p e s m args below meth c A Q ls S hin hK hP hD hZ hS hA hl hret0
  have hret : ∀ (x : Int32) (H : Heap) (locs : List Loc) (pc : Nat) (ls' : Array Slot), some x = some r → decode cJ9_charAt pc = .ok (.ireturn, 1) → va_P D CL ([]) H → va_D A ([]) → va_S A s.heap H locs → W p l e (rmc 2 0 0 43) s m args below meth c H locs 0 0 Q (F0 m pc ls' [.int (chr x)]) := by
    intro x H locs pc ls' h9 hdg hP hD hS
    obtain rfl := so_1 h9
    exact hret0 H locs pc ls' hdg hP hD hS
  have hx := S.1
  have hb := S.2.1
  have hts := S.2.2.2.2
  have hl : lv_has ls 2 [(0, .ref (z.2.1 i0)), (1, .int p1)] := hl
  unfold fJ9_charAt at hf
  refine lv_iload_n hx hb dJ9_charAt_0 rfl (lv_at hl 1 rfl) ?_
  refine lv_aload_n hx hb dJ9_charAt_1 rfl (lv_at hl 0 rfl) ?_
  refine va_tlen hx hb (hZ.2.2.2.2.1.1 i0 hi0).2.2.2 hS (v := nI (zlen.getD i0 0)) rfl dJ9_charAt_2 ?_
  obtain ⟨u_2, h_1, hf⟩ := b1_some hf
  refine run_vE (va_runS (As := [.int p1, .int (nI (zlen.getD i0 0))]) (rest := []) S (tJ5_checkIndex l D d z K p1 (nI (zlen.getD i0 0)) h_1 _) (va_cwS 2 hts (lw_S q1826 q581 q106 q582) rfl rfl rfl (by decide +kernel) ⟨(Nat.le_of_ble_eq_true rfl), (Nat.le_of_ble_eq_true rfl)⟩) ⟨Pw.blind, fun U hU hW => Pw.cut (w := []) (tl := _) hK hP hD hZ hS hA [] rfl rfl hU hW⟩ rfl rfl hl.1 rfl (lv_room (Nat.le_of_ble_eq_true rfl)) dJ9_charAt_3 ⟨(Nat.le_of_ble_eq_true rfl), (Nat.le_of_ble_eq_true rfl)⟩) hP hD hS hA ?_
  clear hP hD hS
  intro H locs hP hD hS
  clear h_1
  refine lv_aload_n hx hb dJ9_charAt_6 rfl (lv_at hl 0 rfl) ?_
  refine lv_iload_n hx hb dJ9_charAt_7 rfl (lv_at hl 1 rfl) ?_
  obtain ⟨g_3, hf⟩ := ga_some hf
  refine va_tb hx hb (hZ.2.2.2.2.1.1 i0 hi0).2.2.2 hS (ix_in g_3) (v := .int ((zbyt.getD i0 []).getD p1.toNatClampNeg 0)) rfl dJ9_charAt_8 ?_
  refine lv_sipush (v := 255) hx hb dJ9_charAt_9 (by decide) ?_
  refine lv_iand hx hb dJ9_charAt_12 ?_
  refine lv_i2c (v := chr (((zbyt.getD i0 []).getD p1.toNatClampNeg 0) &&& (255 : Int32))) hx hb dJ9_charAt_13 rfl ?_
  refine W.widen (k := 0) (n := 0) (Nat.le_of_ble_eq_true rfl) (Nat.le_of_ble_eq_true rfl) ?_
  exact hret _ _ _ _ _ hf dJ9_charAt_14 hP hD hS
def fJ5_charAt (K : Nat) (i0 : Nat) (p0 : Int32) : Option Int32 :=
  b1 (fJ5_isLatin1 K i0) fun r_2 =>
  if r_2 = true then
    b1 (fJ9_charAt K i0 p0) fun r_5 =>
    some r_5
  else
    none
set_option maxHeartbeats 4000000 in
set_option maxRecDepth 100000 in
theorem tJ5_charAt (l : Launch) (D : va_G) (d : Nat → ClassId) (z : ZT) (K : Nat) (i0 : Nat) (hi0 : i0 < 6) (p0 : Int32) (r : Int32) (hf : fJ5_charAt K i0 p0 = some r) : CI l yJ5_charAt (ws_ yJ5_charAt cJ5_charAt 2 (Option.some Jvm.ClassFile.FieldType.char)) (rmc 3 0 0 64) D d z [.ref (z.1 i0), .int p0] ([]) (chr r) ([]) := by
  refine CI.of2 (own := RJ5) rfl (by decide) (Nat.le_of_ble_eq_true rfl) (chr_nar r) ?_
  intro p e s m args below meth c A Q ls S hin hK hP hD hZ hS hA hl hret0
  have hret : ∀ (x : Int32) (H : Heap) (locs : List Loc) (pc : Nat) (ls' : Array Slot), some x = some r → decode cJ5_charAt pc = .ok (.ireturn, 1) → va_P D CL ([]) H → va_D A ([]) → va_S A s.heap H locs → W p l e (rmc 3 0 0 64) s m args below meth c H locs 0 0 Q (F0 m pc ls' [.int (chr x)]) := by
    intro x H locs pc ls' h9 hdg hP hD hS
    obtain rfl := so_1 h9
    exact hret0 H locs pc ls' hdg hP hD hS
  have hx := S.1
  have hb := S.2.1
  have hts := S.2.2.2.2
  have hl : lv_has ls 2 [(0, .ref (z.1 i0)), (1, .int p0)] := hl
  unfold fJ5_charAt at hf
  refine lv_aload_n hx hb dJ5_charAt_0 rfl (lv_at hl 0 rfl) ?_
  obtain ⟨r_2, h_1, hf⟩ := b1_some hf
  refine run_iE (va_runV (As := []) (rest := []) S (tJ5_isLatin1 l D d z K i0 hi0 r_2 h_1 _) (cwV 0 hts (lw_V q1819 q1820 q1821 q106 q1822) rfl rfl rfl (by decide +kernel) ⟨(Nat.le_of_ble_eq_true rfl), (Nat.le_of_ble_eq_true rfl)⟩) ⟨Pw.blind, (vk_recv hZ.2.2.2.2.1 hi0 hS), fun U hU hW => Pw.cut (w := []) (tl := _) hK hP hD hZ hS hA [] rfl rfl hU hW⟩ rfl rfl hl.1 rfl (lv_room (Nat.le_of_ble_eq_true rfl)) dJ5_charAt_1 ⟨(Nat.le_of_ble_eq_true rfl), (Nat.le_of_ble_eq_true rfl)⟩) hP hD hS hA ?_
  clear hP hD hS
  intro H locs hP hD hS
  clear h_1
  refine lv_if_eq (tgt := 16) hx hb dJ5_charAt_4 (by decide) (fun c_3 => ?_) (fun c_3 => ?_)
  · replace hf := it_f hf (bi_e0 c_3)
    clear c_3
    cases hf
  · replace hf := it_t hf (bi_n0 c_3)
    clear c_3
    refine lv_aload_n hx hb dJ5_charAt_7 rfl (lv_at hl 0 rfl) ?_
    refine vk_getf hx hb (hZ.2.2.2.2.1.1 i0 hi0).2.2.1 hS S.2.2.2.1 (hts _ q636) (fun _ h9 => h9) dJ5_charAt_8 ?_
    refine lv_iload_n hx hb dJ5_charAt_11 rfl (lv_at hl 1 rfl) ?_
    obtain ⟨r_5, h_4, hf⟩ := b1_some hf
    refine run_iE (va_runS (As := [.ref (z.2.1 i0), .int p0]) (rest := []) S (tJ9_charAt l D d z K i0 hi0 p0 r_5 h_4 _) (va_cwS 2 hts (lw_S q1823 q1824 q111 q1825) rfl rfl rfl (by decide +kernel) ⟨(Nat.le_of_ble_eq_true rfl), (Nat.le_of_ble_eq_true rfl)⟩) ⟨Pw.blind, fun U hU hW => Pw.cut (w := []) (tl := _) hK hP hD hZ hS hA [] rfl rfl hU hW⟩ rfl rfl hl.1 rfl (lv_room (Nat.le_of_ble_eq_true rfl)) dJ5_charAt_12 ⟨(Nat.le_of_ble_eq_true rfl), (Nat.le_of_ble_eq_true rfl)⟩) hP hD hS hA ?_
    clear hP hD hS
    intro H locs hP hD hS
    clear h_4
    refine W.widen (k := 0) (n := 0) (Nat.le_of_ble_eq_true rfl) (Nat.le_of_ble_eq_true rfl) ?_
    exact hret _ _ _ _ _ hf dJ5_charAt_15 hP hD hS
def fJ16_bitCount (K : Nat) (p0 : Int32) : Option Int32 :=
  nm (p0 - (((p0.toUInt32 >>> ((1 : Int32).toUInt32 &&& Int32.toUInt32 31)).toInt32) &&& (1431655765 : Int32))) fun v_1 =>
  nm ((v_1 &&& (858993459 : Int32)) + (((v_1.toUInt32 >>> ((2 : Int32).toUInt32 &&& Int32.toUInt32 31)).toInt32) &&& (858993459 : Int32))) fun v_2 =>
  nm ((v_2 + ((v_2.toUInt32 >>> ((4 : Int32).toUInt32 &&& Int32.toUInt32 31)).toInt32)) &&& (252645135 : Int32)) fun v_3 =>
  nm (v_3 + ((v_3.toUInt32 >>> ((8 : Int32).toUInt32 &&& Int32.toUInt32 31)).toInt32)) fun v_4 =>
  nm (v_4 + ((v_4.toUInt32 >>> ((16 : Int32).toUInt32 &&& Int32.toUInt32 31)).toInt32)) fun v_5 =>
  some (v_5 &&& (63 : Int32))
set_option maxHeartbeats 4000000 in
set_option maxRecDepth 100000 in
theorem tJ16_bitCount (l : Launch) (K : Nat) (p0 : Int32) (r : Int32) (hf : fJ16_bitCount K p0 = some r) : SI l yJ16_bitCount (ws_ yJ16_bitCount cJ16_bitCount 1 (Option.some Jvm.ClassFile.FieldType.int)) 0 0 [.int p0] r := by
  refine sI_of (own := RJ16) rfl (by decide) (Nat.le_of_ble_eq_true rfl) ?_
  intro p e s m args below meth c Q ls S hl hret
  have hx := S.1
  have hb := S.2.1
  have hts := S.2.2.2.2
  have hl : lv_has ls 1 [(0, .int p0)] := hl
  unfold fJ16_bitCount at hf
  refine lv_iload_n hx hb dJ16_bitCount_0 rfl (lv_at hl 0 rfl) ?_
  refine lv_iload_n hx hb dJ16_bitCount_1 rfl (lv_at hl 0 rfl) ?_
  refine lv_iconst (v := 1) hx hb dJ16_bitCount_2 (by decide) ?_
  refine lv_iushr (v := (p0.toUInt32 >>> ((1 : Int32).toUInt32 &&& Int32.toUInt32 31)).toInt32) hx hb dJ16_bitCount_3 rfl ?_
  refine lv_ldcw hx hb S.2.2.2.1 (hts _ q1086) dJ16_bitCount_4 ?_
  refine lv_iand hx hb dJ16_bitCount_7 ?_
  refine lv_isub hx hb dJ16_bitCount_8 ?_
  refine lv_topi (fun v_1 e_ => ?_)
  replace hf := nm_some hf v_1 e_
  clear e_
  refine lv_istore_n (lv' := [(0, .int v_1)]) hx hb dJ16_bitCount_9 rfl hl (by decide) rfl (fun ls hl => ?_)
  refine lv_iload_n hx hb dJ16_bitCount_10 rfl (lv_at hl 0 rfl) ?_
  refine lv_ldcw hx hb S.2.2.2.1 (hts _ q1087) dJ16_bitCount_11 ?_
  refine lv_iand hx hb dJ16_bitCount_14 ?_
  refine lv_iload_n hx hb dJ16_bitCount_15 rfl (lv_at hl 0 rfl) ?_
  refine lv_iconst (v := 2) hx hb dJ16_bitCount_16 (by decide) ?_
  refine lv_iushr (v := (v_1.toUInt32 >>> ((2 : Int32).toUInt32 &&& Int32.toUInt32 31)).toInt32) hx hb dJ16_bitCount_17 rfl ?_
  refine lv_ldcw hx hb S.2.2.2.1 (hts _ q1087) dJ16_bitCount_18 ?_
  refine lv_iand hx hb dJ16_bitCount_21 ?_
  refine lv_iadd hx hb dJ16_bitCount_22 ?_
  refine lv_topi (fun v_2 e_ => ?_)
  replace hf := nm_some hf v_2 e_
  clear e_
  refine lv_istore_n (lv' := [(0, .int v_2)]) hx hb dJ16_bitCount_23 rfl hl (by decide) rfl (fun ls hl => ?_)
  refine lv_iload_n hx hb dJ16_bitCount_24 rfl (lv_at hl 0 rfl) ?_
  refine lv_iload_n hx hb dJ16_bitCount_25 rfl (lv_at hl 0 rfl) ?_
  refine lv_iconst (v := 4) hx hb dJ16_bitCount_26 (by decide) ?_
  refine lv_iushr (v := (v_2.toUInt32 >>> ((4 : Int32).toUInt32 &&& Int32.toUInt32 31)).toInt32) hx hb dJ16_bitCount_27 rfl ?_
  refine lv_iadd hx hb dJ16_bitCount_28 ?_
  refine lv_ldcw hx hb S.2.2.2.1 (hts _ q1088) dJ16_bitCount_29 ?_
  refine lv_iand hx hb dJ16_bitCount_32 ?_
  refine lv_topi (fun v_3 e_ => ?_)
  replace hf := nm_some hf v_3 e_
  clear e_
  refine lv_istore_n (lv' := [(0, .int v_3)]) hx hb dJ16_bitCount_33 rfl hl (by decide) rfl (fun ls hl => ?_)
  refine lv_iload_n hx hb dJ16_bitCount_34 rfl (lv_at hl 0 rfl) ?_
  refine lv_iload_n hx hb dJ16_bitCount_35 rfl (lv_at hl 0 rfl) ?_
  refine lv_bipush (v := 8) hx hb dJ16_bitCount_36 (by decide) ?_
  refine lv_iushr (v := (v_3.toUInt32 >>> ((8 : Int32).toUInt32 &&& Int32.toUInt32 31)).toInt32) hx hb dJ16_bitCount_38 rfl ?_
  refine lv_iadd hx hb dJ16_bitCount_39 ?_
  refine lv_topi (fun v_4 e_ => ?_)
  replace hf := nm_some hf v_4 e_
  clear e_
  refine lv_istore_n (lv' := [(0, .int v_4)]) hx hb dJ16_bitCount_40 rfl hl (by decide) rfl (fun ls hl => ?_)
  refine lv_iload_n hx hb dJ16_bitCount_41 rfl (lv_at hl 0 rfl) ?_
  refine lv_iload_n hx hb dJ16_bitCount_42 rfl (lv_at hl 0 rfl) ?_
  refine lv_bipush (v := 16) hx hb dJ16_bitCount_43 (by decide) ?_
  refine lv_iushr (v := (v_4.toUInt32 >>> ((16 : Int32).toUInt32 &&& Int32.toUInt32 31)).toInt32) hx hb dJ16_bitCount_45 rfl ?_
  refine lv_iadd hx hb dJ16_bitCount_46 ?_
  refine lv_topi (fun v_5 e_ => ?_)
  replace hf := nm_some hf v_5 e_
  clear e_
  refine lv_istore_n (lv' := [(0, .int v_5)]) hx hb dJ16_bitCount_47 rfl hl (by decide) rfl (fun ls hl => ?_)
  refine lv_iload_n hx hb dJ16_bitCount_48 rfl (lv_at hl 0 rfl) ?_
  refine lv_bipush (v := 63) hx hb dJ16_bitCount_49 (by decide) ?_
  refine lv_iand hx hb dJ16_bitCount_51 ?_
  exact hret _ _ _ hf dJ16_bitCount_52
