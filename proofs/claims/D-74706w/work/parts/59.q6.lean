/-! plain law: nothing is loaded -/
set_option maxRecDepth 100000
theorem ul_antennaResistance (K : Nat) (v0 : Int32) {M : Nat → Int32} (h : M 3 = 0) (g : Nat → Int64) (F : Nat → Nat → Int32) (ξ : XS) : fX4_antennaResistance K v0 (M, g, F) = some ((-1 : Int64), (M, g, F)) ∧ fX0_antennaResistanceu K v0 ξ = some ((-1 : Int64), ξ) := by
  refine ⟨?_, rfl⟩
  unfold fX4_antennaResistance
  first | rw [if_pos h] | (unfold fX4_isEntry; rw [if_pos h]; rfl)
theorem ul_antennaReactance (K : Nat) (v0 : Int32) {M : Nat → Int32} (h : M 3 = 0) (g : Nat → Int64) (F : Nat → Nat → Int32) (ξ : XS) : fX4_antennaReactance K v0 (M, g, F) = some ((-9223372036854775808 : Int64), (M, g, F)) ∧ fX0_antennaReactanceu K v0 ξ = some ((-9223372036854775808 : Int64), ξ) := by
  refine ⟨?_, rfl⟩
  unfold fX4_antennaReactance
  first | rw [if_pos h] | (unfold fX4_isEntry; rw [if_pos h]; rfl)
theorem ul_resonance (K : Nat) (v0 : Int32) {M : Nat → Int32} (h : M 3 = 0) (g : Nat → Int64) (F : Nat → Nat → Int32) (ξ : XS) : fX4_resonance K v0 (M, g, F) = some ((-1 : Int32), (M, g, F)) ∧ fX0_resonanceu K v0 ξ = some ((-1 : Int32), ξ) := by
  refine ⟨?_, rfl⟩
  unfold fX4_resonance
  first | rw [if_pos h] | (unfold fX4_isEntry; rw [if_pos h]; rfl)
theorem ul_bandOf (K : Nat) (v0 : Int32) {M : Nat → Int32} (h : M 3 = 0) (g : Nat → Int64) (F : Nat → Nat → Int32) (ξ : XS) : fX4_bandOf K v0 (M, g, F) = some ((-1 : Int32), (M, g, F)) ∧ fX0_bandOfu K v0 ξ = some ((-1 : Int32), ξ) := by
  refine ⟨?_, rfl⟩
  unfold fX4_bandOf
  first | rw [if_pos h] | (unfold fX4_isEntry; rw [if_pos h]; rfl)
theorem ul_frequency (K : Nat) {M : Nat → Int32} (h : M 3 = 0) (g : Nat → Int64) (F : Nat → Nat → Int32) (ξ : XS) : fX4_frequency K (M, g, F) = some ((-1 : Int32), (M, g, F)) ∧ fX0_frequencyu K ξ = some ((-1 : Int32), ξ) := by
  refine ⟨?_, rfl⟩
  unfold fX4_frequency
  first | rw [if_pos h] | (unfold fX4_isEntry; rw [if_pos h]; rfl)
theorem ul_settings (K : Nat) {M : Nat → Int32} (h : M 3 = 0) (g : Nat → Int64) (F : Nat → Nat → Int32) (ξ : XS) : fX4_settings K (M, g, F) = some ((-1 : Int32), (M, g, F)) ∧ fX0_settingsu K ξ = some ((-1 : Int32), ξ) := by
  refine ⟨?_, rfl⟩
  unfold fX4_settings
  first | rw [if_pos h] | (unfold fX4_isEntry; rw [if_pos h]; rfl)
theorem ul_inputResistance (K : Nat) {M : Nat → Int32} (h : M 3 = 0) (g : Nat → Int64) (F : Nat → Nat → Int32) (ξ : XS) : fX4_inputResistance K (M, g, F) = some ((-9223372036854775808 : Int64), (M, g, F)) ∧ fX0_inputResistanceu K ξ = some ((-9223372036854775808 : Int64), ξ) := by
  refine ⟨?_, rfl⟩
  unfold fX4_inputResistance
  first | rw [if_pos h] | (unfold fX4_isEntry; rw [if_pos h]; rfl)
theorem ul_inputReactance (K : Nat) {M : Nat → Int32} (h : M 3 = 0) (g : Nat → Int64) (F : Nat → Nat → Int32) (ξ : XS) : fX4_inputReactance K (M, g, F) = some ((-9223372036854775808 : Int64), (M, g, F)) ∧ fX0_inputReactanceu K ξ = some ((-9223372036854775808 : Int64), ξ) := by
  refine ⟨?_, rfl⟩
  unfold fX4_inputReactance
  first | rw [if_pos h] | (unfold fX4_isEntry; rw [if_pos h]; rfl)
theorem ul_swr (K : Nat) {M : Nat → Int32} (h : M 3 = 0) (g : Nat → Int64) (F : Nat → Nat → Int32) (ξ : XS) : fX4_swr K (M, g, F) = some ((-1 : Int32), (M, g, F)) ∧ fX0_swru K ξ = some ((-1 : Int32), ξ) := by
  refine ⟨?_, rfl⟩
  unfold fX4_swr
  first | rw [if_pos h] | (unfold fX4_isEntry; rw [if_pos h]; rfl)
theorem ul_swrAt (K : Nat) (v0 : Int32) {M : Nat → Int32} (h : M 3 = 0) (g : Nat → Int64) (F : Nat → Nat → Int32) (ξ : XS) : fX4_swrAt K v0 (M, g, F) = some ((-1 : Int32), (M, g, F)) ∧ fX0_swrAtu K v0 ξ = some ((-1 : Int32), ξ) := by
  refine ⟨?_, rfl⟩
  unfold fX4_swrAt
  first | rw [if_pos h] | (unfold fX4_isEntry; rw [if_pos h]; rfl)
theorem ul_efficiency (K : Nat) {M : Nat → Int32} (h : M 3 = 0) (g : Nat → Int64) (F : Nat → Nat → Int32) (ξ : XS) : fX4_efficiency K (M, g, F) = some ((-1 : Int32), (M, g, F)) ∧ fX0_efficiencyu K ξ = some ((-1 : Int32), ξ) := by
  refine ⟨?_, rfl⟩
  unfold fX4_efficiency
  first | rw [if_pos h] | (unfold fX4_isEntry; rw [if_pos h]; rfl)
theorem ul_capacitorVoltage (K : Nat) {M : Nat → Int32} (h : M 3 = 0) (g : Nat → Int64) (F : Nat → Nat → Int32) (ξ : XS) : fX4_capacitorVoltage K (M, g, F) = some ((-1 : Int32), (M, g, F)) ∧ fX0_capacitorVoltageu K ξ = some ((-1 : Int32), ξ) := by
  refine ⟨?_, rfl⟩
  unfold fX4_capacitorVoltage
  first | rw [if_pos h] | (unfold fX4_isEntry; rw [if_pos h]; rfl)
theorem ul_greatestPower (K : Nat) {M : Nat → Int32} (h : M 3 = 0) (g : Nat → Int64) (F : Nat → Nat → Int32) (ξ : XS) : fX4_greatestPower K (M, g, F) = some ((-1 : Int32), (M, g, F)) ∧ fX0_greatestPoweru K ξ = some ((-1 : Int32), ξ) := by
  refine ⟨?_, rfl⟩
  unfold fX4_greatestPower
  first | rw [if_pos h] | (unfold fX4_isEntry; rw [if_pos h]; rfl)
theorem ul_highestMatched (K : Nat) {M : Nat → Int32} (h : M 3 = 0) (g : Nat → Int64) (F : Nat → Nat → Int32) (ξ : XS) : fX4_highestMatched K (M, g, F) = some ((-1 : Int32), (M, g, F)) ∧ fX0_highestMatchedu K ξ = some ((-1 : Int32), ξ) := by
  refine ⟨?_, rfl⟩
  unfold fX4_highestMatched
  first | rw [if_pos h] | (unfold fX4_isEntry; rw [if_pos h]; rfl)
theorem ul_lowestMatched (K : Nat) {M : Nat → Int32} (h : M 3 = 0) (g : Nat → Int64) (F : Nat → Nat → Int32) (ξ : XS) : fX4_lowestMatched K (M, g, F) = some ((-1 : Int32), (M, g, F)) ∧ fX0_lowestMatchedu K ξ = some ((-1 : Int32), ξ) := by
  refine ⟨?_, rfl⟩
  unfold fX4_lowestMatched
  first | rw [if_pos h] | (unfold fX4_isEntry; rw [if_pos h]; rfl)
theorem ul_worstInBand (K : Nat) (v0 : Int32) {M : Nat → Int32} (h : M 3 = 0) (g : Nat → Int64) (F : Nat → Nat → Int32) (ξ : XS) : fX4_worstInBand K v0 (M, g, F) = some ((-1 : Int32), (M, g, F)) ∧ fX0_worstInBandu K v0 ξ = some ((-1 : Int32), ξ) := by
  refine ⟨?_, rfl⟩
  unfold fX4_worstInBand
  first | rw [if_pos h] | (unfold fX4_isEntry; rw [if_pos h]; rfl)
theorem ul_readingCount (K : Nat) {M : Nat → Int32} (h : M 3 = 0) (g : Nat → Int64) (F : Nat → Nat → Int32) (ξ : XS) : fX4_readingCount K (M, g, F) = some ((-1 : Int32), (M, g, F)) ∧ fX0_readingCountu K ξ = some ((-1 : Int32), ξ) := by
  refine ⟨?_, rfl⟩
  unfold fX4_readingCount
  first | rw [if_pos h] | (unfold fX4_isEntry; rw [if_pos h]; rfl)
theorem ul_reading (K : Nat) (v0 : Int32) {M : Nat → Int32} (h : M 3 = 0) (g : Nat → Int64) (F : Nat → Nat → Int32) (ξ : XS) : fX4_reading K v0 (M, g, F) = some ((-1 : Int32), (M, g, F)) ∧ fX0_readingu K v0 ξ = some ((-1 : Int32), ξ) := by
  refine ⟨?_, rfl⟩
  unfold fX4_reading
  first | rw [if_pos h] | (unfold fX4_isEntry; rw [if_pos h]; rfl)
theorem ul_heat (K : Nat) {M : Nat → Int32} (h : M 3 = 0) (g : Nat → Int64) (F : Nat → Nat → Int32) (ξ : XS) : fX4_heat K (M, g, F) = some ((-1 : Int32), (M, g, F)) ∧ fX0_heatu K ξ = some ((-1 : Int32), ξ) := by
  refine ⟨?_, rfl⟩
  unfold fX4_heat
  first | rw [if_pos h] | (unfold fX4_isEntry; rw [if_pos h]; rfl)
theorem ul_arcsNoticed (K : Nat) (v0 : Int32) {M : Nat → Int32} (h : M 3 = 0) (g : Nat → Int64) (F : Nat → Nat → Int32) (ξ : XS) : fX4_arcsNoticed K v0 (M, g, F) = some ((-1 : Int32), (M, g, F)) ∧ fX0_arcsNoticedu K v0 ξ = some ((-1 : Int32), ξ) := by
  refine ⟨?_, rfl⟩
  unfold fX4_arcsNoticed
  first | rw [if_pos h] | (unfold fX4_isEntry; rw [if_pos h]; rfl)
theorem ul_evaluations (K : Nat) {M : Nat → Int32} (h : M 3 = 0) (g : Nat → Int64) (F : Nat → Nat → Int32) (ξ : XS) : fX4_evaluations K (M, g, F) = some ((-1 : Int32), (M, g, F)) ∧ fX0_evaluationsu K ξ = some ((-1 : Int32), ξ) := by
  refine ⟨?_, rfl⟩
  unfold fX4_evaluations
  first | rw [if_pos h] | (unfold fX4_isEntry; rw [if_pos h]; rfl)
theorem ul_bestSettings (K : Nat) {M : Nat → Int32} (h : M 3 = 0) (g : Nat → Int64) (F : Nat → Nat → Int32) (ξ : XS) : fX4_bestSettings K (M, g, F) = some ((-1 : Int32), (M, g, F)) ∧ fX0_bestSettingsu K ξ = some ((-1 : Int32), ξ) := by
  refine ⟨?_, rfl⟩
  unfold fX4_bestSettings
  first | rw [if_pos h] | (unfold fX4_isEntry; rw [if_pos h]; rfl)
theorem ul_mostEfficient (K : Nat) {M : Nat → Int32} (h : M 3 = 0) (g : Nat → Int64) (F : Nat → Nat → Int32) (ξ : XS) : fX4_mostEfficient K (M, g, F) = some ((-1 : Int32), (M, g, F)) ∧ fX0_mostEfficientu K ξ = some ((-1 : Int32), ξ) := by
  refine ⟨?_, rfl⟩
  unfold fX4_mostEfficient
  first | rw [if_pos h] | (unfold fX4_isEntry; rw [if_pos h]; rfl)
theorem ul_swrWith (K : Nat) (v0 v1 v2 : Int32) {M : Nat → Int32} (h : M 3 = 0) (g : Nat → Int64) (F : Nat → Nat → Int32) (ξ : XS) : fX4_swrWith K v0 v1 v2 (M, g, F) = some ((-1 : Int32), (M, g, F)) ∧ fX0_swrWithu K v0 v1 v2 ξ = some ((-1 : Int32), ξ) := by
  refine ⟨?_, rfl⟩
  unfold fX4_swrWith
  first | rw [if_pos h] | (unfold fX4_isEntry; rw [if_pos h]; rfl)
theorem ul_setFrequency (K : Nat) (v0 : Int32) {M : Nat → Int32} (h : M 3 = 0) (g : Nat → Int64) (F : Nat → Nat → Int32) (ξ : XS) : fX4_setFrequency K v0 (M, g, F) = some ((-1 : Int32), (M, g, F)) ∧ fX0_setFrequencyu K v0 ξ = some ((-1 : Int32), ξ) := by
  refine ⟨?_, rfl⟩
  unfold fX4_setFrequency
  first | rw [if_pos h] | (unfold fX4_isEntry; rw [if_pos h]; rfl)
theorem ul_setSide (K : Nat) (v0 : Int32) {M : Nat → Int32} (h : M 3 = 0) (g : Nat → Int64) (F : Nat → Nat → Int32) (ξ : XS) : fX4_setSide K v0 (M, g, F) = some ((-1 : Int32), (M, g, F)) ∧ fX0_setSideu K v0 ξ = some ((-1 : Int32), ξ) := by
  refine ⟨?_, rfl⟩
  unfold fX4_setSide
  first | rw [if_pos h] | (unfold fX4_isEntry; rw [if_pos h]; rfl)
theorem ul_setCoil (K : Nat) (v0 : Int32) {M : Nat → Int32} (h : M 3 = 0) (g : Nat → Int64) (F : Nat → Nat → Int32) (ξ : XS) : fX4_setCoil K v0 (M, g, F) = some ((-1 : Int32), (M, g, F)) ∧ fX0_setCoilu K v0 ξ = some ((-1 : Int32), ξ) := by
  refine ⟨?_, rfl⟩
  unfold fX4_setCoil
  first | rw [if_pos h] | (unfold fX4_isEntry; rw [if_pos h]; rfl)
theorem ul_setCapacitor (K : Nat) (v0 : Int32) {M : Nat → Int32} (h : M 3 = 0) (g : Nat → Int64) (F : Nat → Nat → Int32) (ξ : XS) : fX4_setCapacitor K v0 (M, g, F) = some ((-1 : Int32), (M, g, F)) ∧ fX0_setCapacitoru K v0 ξ = some ((-1 : Int32), ξ) := by
  refine ⟨?_, rfl⟩
  unfold fX4_setCapacitor
  first | rw [if_pos h] | (unfold fX4_isEntry; rw [if_pos h]; rfl)
theorem ul_relaysTo (K : Nat) (v0 v1 v2 : Int32) {M : Nat → Int32} (h : M 3 = 0) (g : Nat → Int64) (F : Nat → Nat → Int32) (ξ : XS) : fX4_relaysTo K v0 v1 v2 (M, g, F) = some ((-1 : Int32), (M, g, F)) ∧ fX0_relaysTou K v0 v1 v2 ξ = some ((-1 : Int32), ξ) := by
  refine ⟨?_, rfl⟩
  unfold fX4_relaysTo
  first | rw [if_pos h] | (unfold fX4_isEntry; rw [if_pos h]; rfl)
theorem ul_transmit (K : Nat) (v0 : Int32) {M : Nat → Int32} (h : M 3 = 0) (g : Nat → Int64) (F : Nat → Nat → Int32) (ξ : XS) : fX4_transmit K v0 (M, g, F) = some ((-1 : Int32), (M, g, F)) ∧ fX0_transmitu K v0 ξ = some ((-1 : Int32), ξ) := by
  refine ⟨?_, rfl⟩
  unfold fX4_transmit
  first | rw [if_pos h] | (unfold fX4_isEntry; rw [if_pos h]; rfl)
theorem ul_tune (K : Nat) {M : Nat → Int32} (h : M 3 = 0) (g : Nat → Int64) (F : Nat → Nat → Int32) (ξ : XS) : fX4_tune K (M, g, F) = some ((-1 : Int32), (M, g, F)) ∧ fX0_tuneu K ξ = some ((-1 : Int32), ξ) := by
  refine ⟨?_, rfl⟩
  unfold fX4_tune
  first | rw [if_pos h] | (unfold fX4_isEntry; rw [if_pos h]; rfl)
theorem ul_tuneCold (K : Nat) {M : Nat → Int32} (h : M 3 = 0) (g : Nat → Int64) (F : Nat → Nat → Int32) (ξ : XS) : fX4_tuneCold K (M, g, F) = some ((-1 : Int32), (M, g, F)) ∧ fX0_tuneColdu K ξ = some ((-1 : Int32), ξ) := by
  refine ⟨?_, rfl⟩
  unfold fX4_tuneCold
  first | rw [if_pos h] | (unfold fX4_isEntry; rw [if_pos h]; rfl)
theorem ul_tuneFromMemory (K : Nat) {M : Nat → Int32} (h : M 3 = 0) (g : Nat → Int64) (F : Nat → Nat → Int32) (ξ : XS) : fX4_tuneFromMemory K (M, g, F) = some ((-1 : Int32), (M, g, F)) ∧ fX0_tuneFromMemoryu K ξ = some ((-1 : Int32), ξ) := by
  refine ⟨?_, rfl⟩
  unfold fX4_tuneFromMemory
  first | rw [if_pos h] | (unfold fX4_isEntry; rw [if_pos h]; rfl)
theorem ul_store (K : Nat) {M : Nat → Int32} (h : M 3 = 0) (g : Nat → Int64) (F : Nat → Nat → Int32) (ξ : XS) : fX4_store K (M, g, F) = some ((-1 : Int32), (M, g, F)) ∧ fX0_storeu K ξ = some ((-1 : Int32), ξ) := by
  refine ⟨?_, rfl⟩
  unfold fX4_store
  first | rw [if_pos h] | (unfold fX4_isEntry; rw [if_pos h]; rfl)
theorem ul_recall (K : Nat) {M : Nat → Int32} (h : M 3 = 0) (g : Nat → Int64) (F : Nat → Nat → Int32) (ξ : XS) : fX4_recall K (M, g, F) = some ((-1 : Int32), (M, g, F)) ∧ fX0_recallu K ξ = some ((-1 : Int32), ξ) := by
  refine ⟨?_, rfl⟩
  unfold fX4_recall
  first | rw [if_pos h] | (unfold fX4_isEntry; rw [if_pos h]; rfl)
theorem ul_forget (K : Nat) (v0 : Int32) {M : Nat → Int32} (h : M 3 = 0) (g : Nat → Int64) (F : Nat → Nat → Int32) (ξ : XS) : fX4_forget K v0 (M, g, F) = some ((-1 : Int32), (M, g, F)) ∧ fX0_forgetu K v0 ξ = some ((-1 : Int32), ξ) := by
  refine ⟨?_, rfl⟩
  unfold fX4_forget
  first | rw [if_pos h] | (unfold fX4_isEntry; rw [if_pos h]; rfl)
theorem ul_memoryCount (K : Nat) {M : Nat → Int32} (h : M 3 = 0) (g : Nat → Int64) (F : Nat → Nat → Int32) (ξ : XS) : fX4_memoryCount K (M, g, F) = some ((-1 : Int32), (M, g, F)) ∧ fX0_memoryCountu K ξ = some ((-1 : Int32), ξ) := by
  refine ⟨?_, rfl⟩
  unfold fX4_memoryCount
  first | rw [if_pos h] | (unfold fX4_isEntry; rw [if_pos h]; rfl)
theorem ul_memoryFrequency (K : Nat) (v0 : Int32) {M : Nat → Int32} (h : M 3 = 0) (g : Nat → Int64) (F : Nat → Nat → Int32) (ξ : XS) : fX4_memoryFrequency K v0 (M, g, F) = some ((-1 : Int32), (M, g, F)) ∧ fX0_memoryFrequencyu K v0 ξ = some ((-1 : Int32), ξ) := by
  refine ⟨?_, rfl⟩
  unfold fX4_memoryFrequency
  first | rw [if_pos h] | (unfold fX4_isEntry; rw [if_pos h]; rfl)
theorem ul_memorySettings (K : Nat) (v0 : Int32) {M : Nat → Int32} (h : M 3 = 0) (g : Nat → Int64) (F : Nat → Nat → Int32) (ξ : XS) : fX4_memorySettings K v0 (M, g, F) = some ((-1 : Int32), (M, g, F)) ∧ fX0_memorySettingsu K v0 ξ = some ((-1 : Int32), ξ) := by
  refine ⟨?_, rfl⟩
  unfold fX4_memorySettings
  first | rw [if_pos h] | (unfold fX4_isEntry; rw [if_pos h]; rfl)
theorem ul_memorySwr (K : Nat) (v0 : Int32) {M : Nat → Int32} (h : M 3 = 0) (g : Nat → Int64) (F : Nat → Nat → Int32) (ξ : XS) : fX4_memorySwr K v0 (M, g, F) = some ((-1 : Int32), (M, g, F)) ∧ fX0_memorySwru K v0 ξ = some ((-1 : Int32), ξ) := by
  refine ⟨?_, rfl⟩
  unfold fX4_memorySwr
  first | rw [if_pos h] | (unfold fX4_isEntry; rw [if_pos h]; rfl)
theorem ul_undo (K : Nat) {M : Nat → Int32} (h : M 3 = 0) (g : Nat → Int64) (F : Nat → Nat → Int32) (ξ : XS) : fX4_undo K (M, g, F) = some ((-1 : Int32), (M, g, F)) ∧ fX0_undou K ξ = some ((-1 : Int32), ξ) := by
  refine ⟨?_, rfl⟩
  unfold fX4_undo
  first | rw [if_pos h] | (unfold fX4_isEntry; rw [if_pos h]; rfl)
theorem ul_failureDepth (K : Nat) {M : Nat → Int32} (h : M 3 = 0) (g : Nat → Int64) (F : Nat → Nat → Int32) (ξ : XS) : fX4_failureDepth K (M, g, F) = some ((-1 : Int32), (M, g, F)) ∧ fX0_failureDepthu K ξ = some ((-1 : Int32), ξ) := by
  refine ⟨?_, rfl⟩
  unfold fX4_failureDepth
  first | rw [if_pos h] | (unfold fX4_isEntry; rw [if_pos h]; rfl)
theorem ul_failureKind (K : Nat) (v0 : Int32) {M : Nat → Int32} (h : M 3 = 0) (g : Nat → Int64) (F : Nat → Nat → Int32) (ξ : XS) : fX4_failureKind K v0 (M, g, F) = some ((-1 : Int32), (M, g, F)) ∧ fX0_failureKindu K v0 ξ = some ((-1 : Int32), ξ) := by
  refine ⟨?_, rfl⟩
  unfold fX4_failureKind
  first | rw [if_pos h] | (unfold fX4_isEntry; rw [if_pos h]; rfl)
theorem ul_failureValue (K : Nat) (v0 : Int32) {M : Nat → Int32} (h : M 3 = 0) (g : Nat → Int64) (F : Nat → Nat → Int32) (ξ : XS) : fX4_failureValue K v0 (M, g, F) = some ((-1 : Int32), (M, g, F)) ∧ fX0_failureValueu K v0 ξ = some ((-1 : Int32), ξ) := by
  refine ⟨?_, rfl⟩
  unfold fX4_failureValue
  first | rw [if_pos h] | (unfold fX4_isEntry; rw [if_pos h]; rfl)
