set_option maxRecDepth 100000
def j_bitCount (p1 : Int32) : Option Int32 :=
  nm (p1 - ((jushr p1 1) &&& 1431655765)) fun x1 =>
  nm ((x1 &&& 858993459) + ((jushr x1 2) &&& 858993459)) fun x2 =>
  nm ((x2 + (jushr x2 4)) &&& 252645135) fun x3 =>
  nm (x3 + (jushr x3 8)) fun x4 =>
  nm (x4 + (jushr x4 16)) fun x5 =>
  some (x5 &&& 63)
theorem mt_j_bitCount {κ : jK} (hκ : jStd κ) {w : jW} {p1 : Int32} {v : Int32} (h : j_bitCount p1 = some v) : jM κ yJ13_bitCount (ws_ yJ13_bitCount cJ13_bitCount 1 (some .int)) 0 0 0 [.int p1] (w) (fun u w' => u = some (.int v) ∧ w' = w) := by
  rw [j_bitCount] at h
  refine jM.of (by decide) rfl (Nat.le_of_ble_eq_true rfl) fun Γ C _ => ?_
  show J κ Γ (0, 0, 0, (fun u w' => u = some (.int v) ∧ w' = w)) 1 (w) 0 0 0 [some (.int p1)] []
  refine j_iload_n C dJ13_bitCount_0 rfl rfl ?_
  refine j_iload_n C dJ13_bitCount_1 rfl rfl ?_
  refine j_iconst C (v := 1) dJ13_bitCount_2 rfl ?_
  refine j_iushr C dJ13_bitCount_3 ?_
  refine j_ldc_w C (v := 1431655765) dJ13_bitCount_4 q979 ?_
  refine j_iand C dJ13_bitCount_7 ?_
  refine j_isub C dJ13_bitCount_8 ?_
  refine j_nmI h (fun x1 h => ?_)
  refine j_istore_n C dJ13_bitCount_9 rfl (by decide) rfl ?_
  refine j_iload_n C dJ13_bitCount_10 rfl rfl ?_
  refine j_ldc_w C (v := 858993459) dJ13_bitCount_11 q980 ?_
  refine j_iand C dJ13_bitCount_14 ?_
  refine j_iload_n C dJ13_bitCount_15 rfl rfl ?_
  refine j_iconst C (v := 2) dJ13_bitCount_16 rfl ?_
  refine j_iushr C dJ13_bitCount_17 ?_
  refine j_ldc_w C (v := 858993459) dJ13_bitCount_18 q980 ?_
  refine j_iand C dJ13_bitCount_21 ?_
  refine j_iadd C dJ13_bitCount_22 ?_
  refine j_nmI h (fun x2 h => ?_)
  refine j_istore_n C dJ13_bitCount_23 rfl (by decide) rfl ?_
  refine j_iload_n C dJ13_bitCount_24 rfl rfl ?_
  refine j_iload_n C dJ13_bitCount_25 rfl rfl ?_
  refine j_iconst C (v := 4) dJ13_bitCount_26 rfl ?_
  refine j_iushr C dJ13_bitCount_27 ?_
  refine j_iadd C dJ13_bitCount_28 ?_
  refine j_ldc_w C (v := 252645135) dJ13_bitCount_29 q981 ?_
  refine j_iand C dJ13_bitCount_32 ?_
  refine j_nmI h (fun x3 h => ?_)
  refine j_istore_n C dJ13_bitCount_33 rfl (by decide) rfl ?_
  refine j_iload_n C dJ13_bitCount_34 rfl rfl ?_
  refine j_iload_n C dJ13_bitCount_35 rfl rfl ?_
  refine j_bipush C (v := 8) dJ13_bitCount_36 rfl ?_
  refine j_iushr C dJ13_bitCount_38 ?_
  refine j_iadd C dJ13_bitCount_39 ?_
  refine j_nmI h (fun x4 h => ?_)
  refine j_istore_n C dJ13_bitCount_40 rfl (by decide) rfl ?_
  refine j_iload_n C dJ13_bitCount_41 rfl rfl ?_
  refine j_iload_n C dJ13_bitCount_42 rfl rfl ?_
  refine j_bipush C (v := 16) dJ13_bitCount_43 rfl ?_
  refine j_iushr C dJ13_bitCount_45 ?_
  refine j_iadd C dJ13_bitCount_46 ?_
  refine j_nmI h (fun x5 h => ?_)
  refine j_istore_n C dJ13_bitCount_47 rfl (by decide) rfl ?_
  refine j_iload_n C dJ13_bitCount_48 rfl rfl ?_
  refine j_bipush C (v := 63) dJ13_bitCount_49 rfl ?_
  refine j_iand C dJ13_bitCount_51 ?_
  cases h
  exact j_iret C dJ13_bitCount_52 (Nat.zero_le _) (Nat.zero_le _) ⟨rfl, rfl⟩
theorem hG_j_bitCount_m : GoodIn lw_all (va_wsS "NineKeysRoundModel" 305 yJ13_bitCount (ws_ yJ13_bitCount cJ13_bitCount 1 (some .int))) := lw_S q2018 q977 q139 q978
theorem hG_j_bitCount_x : GoodIn lw_all (va_wsS "NineKeysRound" 315 yJ13_bitCount (ws_ yJ13_bitCount cJ13_bitCount 1 (some .int))) := lw_S q976 q977 q139 q978
theorem hy_j_bitCount : yJ13_bitCount.cls ≠ "java/lang/invoke/MethodHandle" ∧ yJ13_bitCount.cls ≠ "java/lang/invoke/VarHandle" ∧ (parseMethodDescriptor yJ13_bitCount.desc).map (fun d => d.parameters.length) = some 1 := ⟨by decide, by decide, by decide +kernel⟩
