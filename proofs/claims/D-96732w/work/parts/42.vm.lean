set_option maxRecDepth 100000
theorem jUV_X0 : jUV "NineKeysRound" 217 := ⟨⟨q923, q925, q944, q932, q134, q933, (Or.inl q924), by decide, by decide⟩, ⟨q923, q925, q926, q927, q135, q928, (Or.inl q924), by decide, by decide⟩, ⟨q923, q925, q946, q937, q136, q938, (Or.inl q924), by decide, by decide⟩, ⟨q923, q925, q943, q930, q137, q931, (Or.inl q924), by decide, by decide⟩, ⟨q923, q925, q945, q934, q138, q935, (Or.inl q924), by decide, by decide⟩⟩
theorem jUV_X9 : jUV "NineKeysRound$Denied" 13 := ⟨⟨q929, q925, q944, q932, q134, q933, (Or.inl q924), by decide, by decide⟩, ⟨q929, q925, q926, q927, q135, q928, (Or.inl q924), by decide, by decide⟩, ⟨q929, q925, q946, q937, q136, q938, (Or.inl q924), by decide, by decide⟩, ⟨q929, q925, q943, q930, q137, q931, (Or.inl q924), by decide, by decide⟩, ⟨q929, q925, q945, q934, q138, q935, (Or.inl q924), by decide, by decide⟩⟩
theorem jUV_X10 : jUV "NineKeysRound$Turned" 13 := ⟨⟨q939, q925, q944, q932, q134, q933, (Or.inl q924), by decide, by decide⟩, ⟨q939, q925, q926, q927, q135, q928, (Or.inl q924), by decide, by decide⟩, ⟨q939, q925, q946, q937, q136, q938, (Or.inl q924), by decide, by decide⟩, ⟨q939, q925, q943, q930, q137, q931, (Or.inl q924), by decide, by decide⟩, ⟨q939, q925, q945, q934, q138, q935, (Or.inl q924), by decide, by decide⟩⟩
theorem jUV_X12 : jUV "NineKeysRound$Pair" 20 := ⟨⟨q936, q925, q944, q932, q134, q933, (Or.inl q924), by decide, by decide⟩, ⟨q936, q925, q926, q927, q135, q928, (Or.inl q924), by decide, by decide⟩, ⟨q936, q925, q946, q937, q136, q938, (Or.inl q924), by decide, by decide⟩, ⟨q936, q925, q943, q930, q137, q931, (Or.inl q924), by decide, by decide⟩, ⟨q936, q925, q945, q934, q138, q935, (Or.inl q924), by decide, by decide⟩⟩
/-! value -/
def v8_value (o : XS → Nat → Option Int32) (T : XS) (a0 : Nat) : Option Int32 :=
  (getO T a0 8).bind fun q1 =>
  chk 128 (q1.2.1 0) (
  some (T.2.1 49 (q1.2.1 0).toNatClampNeg))
theorem mt_v8_value {κ : jK} (hκ : jX κ) (G : Nat → Nat) {o : XS → Nat → Option Int32} {fo : Nat} (ho : okV κ G fo o) {T : XS} {a0 : Nat} {v : Int32} (h : v8_value o T a0 = some v) : jM κ yX8_value (ws_ yX8_value cX8_value 2 (some .int)) (fo + 2) 0 0 [.ref a0, .ref (G 13)] (wX κ G T) (fun u w' => u = some (.int v) ∧ w' = wX κ G T) := by
  rw [v8_value] at h
  refine jM.of (by decide) rfl (Nat.le_of_ble_eq_true rfl) fun Γ C _ => ?_
  show J κ Γ ((fo + 2), 0, 0, (fun u w' => u = some (.int v) ∧ w' = wX κ G T)) 2 (wX κ G T) 0 0 0 [some (.ref a0), some (.ref (G 13))] []
  refine j_aload_n C dX8_value_0 rfl rfl ?_
  refine jx_gnamedN hκ C q176 dX8_value_1 ?_
  refine j_aload_n C dX8_value_4 rfl rfl ?_
  obtain ⟨q1, g2, h⟩ := ob h
  refine jx_gi8 hκ C g2 0 (by decide) rfl q761 dX8_value_5 ?_
  obtain ⟨b3, h⟩ := chk_some h
  refine jx_iald hκ C 49 rfl rfl b3 dX8_value_8 ?_
  obtain rfl := sp1 h
  exact j_iret C dX8_value_9 (Nat.le_of_ble_eq_true rfl) (Nat.le_of_ble_eq_true rfl) ⟨rfl, rfl⟩
/-! value -/
def v9_value (o : XS → Nat → Option Int32) (T : XS) (a0 : Nat) : Option Int32 :=
  (getO T a0 9).bind fun q1 =>
  (q1.2.2.1 0).bind fun a3 =>
  (o T a3).bind fun v5 =>
  (if v5 = 0 then
  some 1
  else
  some 0)
theorem mt_v9_value {κ : jK} (hκ : jX κ) (G : Nat → Nat) {o : XS → Nat → Option Int32} {fo : Nat} (ho : okV κ G fo o) {T : XS} {a0 : Nat} {v : Int32} (h : v9_value o T a0 = some v) : jM κ yX9_value (ws_ yX9_value cX9_value 2 (some .int)) (fo + 2) 0 0 [.ref a0, .ref (G 13)] (wX κ G T) (fun u w' => u = some (.int v) ∧ w' = wX κ G T) := by
  rw [v9_value] at h
  refine jM.of (by decide) rfl (Nat.le_of_ble_eq_true rfl) fun Γ C _ => ?_
  show J κ Γ ((fo + 2), 0, 0, (fun u w' => u = some (.int v) ∧ w' = wX κ G T)) 2 (wX κ G T) 0 0 0 [some (.ref a0), some (.ref (G 13))] []
  refine j_aload_n C dX9_value_0 rfl rfl ?_
  obtain ⟨q1, g2, h⟩ := ob h
  refine jx_gr9 hκ C g2 0 (by decide) rfl q779 dX9_value_1 ?_
  refine j_aload_n C dX9_value_4 rfl rfl ?_
  obtain ⟨a3, w4, h⟩ := ob h
  obtain ⟨v5, e6, h⟩ := ob h
  refine jx_value hκ C ho jUV_X9 w4 e6 dX9_value_5 (by show _ ≤ _; omega) (Nat.le_of_ble_eq_true rfl) (Nat.le_of_ble_eq_true rfl) (Nat.le_of_ble_eq_true rfl) ?_
  refine j_if_ne C dX9_value_8 (tgt := 15) (by decide) (fun c => ?_) (fun c => ?_)
  · replace h := im c h
    refine j_iconst C (v := 0) dX9_value_15 rfl ?_
    obtain rfl := sp1 h
    exact j_iret C dX9_value_16 (Nat.le_of_ble_eq_true rfl) (Nat.le_of_ble_eq_true rfl) ⟨rfl, rfl⟩
  replace h := ip c h
  refine j_iconst C (v := 1) dX9_value_11 rfl ?_
  refine j_goto C dX9_value_12 (tgt := 16) (by decide) ?_
  obtain rfl := sp1 h
  exact j_iret C dX9_value_16 (Nat.le_of_ble_eq_true rfl) (Nat.le_of_ble_eq_true rfl) ⟨rfl, rfl⟩
/-! value -/
def v10_value (o : XS → Nat → Option Int32) (T : XS) (a0 : Nat) : Option Int32 :=
  (getO T a0 10).bind fun q1 =>
  (q1.2.2.1 0).bind fun a3 =>
  (o T a3).bind fun v5 =>
  some (-v5)
theorem mt_v10_value {κ : jK} (hκ : jX κ) (G : Nat → Nat) {o : XS → Nat → Option Int32} {fo : Nat} (ho : okV κ G fo o) {T : XS} {a0 : Nat} {v : Int32} (h : v10_value o T a0 = some v) : jM κ yX10_value (ws_ yX10_value cX10_value 2 (some .int)) (fo + 2) 0 0 [.ref a0, .ref (G 13)] (wX κ G T) (fun u w' => u = some (.int v) ∧ w' = wX κ G T) := by
  rw [v10_value] at h
  refine jM.of (by decide) rfl (Nat.le_of_ble_eq_true rfl) fun Γ C _ => ?_
  show J κ Γ ((fo + 2), 0, 0, (fun u w' => u = some (.int v) ∧ w' = wX κ G T)) 2 (wX κ G T) 0 0 0 [some (.ref a0), some (.ref (G 13))] []
  refine j_aload_n C dX10_value_0 rfl rfl ?_
  obtain ⟨q1, g2, h⟩ := ob h
  refine jx_gr10 hκ C g2 0 (by decide) rfl q789 dX10_value_1 ?_
  refine j_aload_n C dX10_value_4 rfl rfl ?_
  obtain ⟨a3, w4, h⟩ := ob h
  obtain ⟨v5, e6, h⟩ := ob h
  refine jx_value hκ C ho jUV_X10 w4 e6 dX10_value_5 (by show _ ≤ _; omega) (Nat.le_of_ble_eq_true rfl) (Nat.le_of_ble_eq_true rfl) (Nat.le_of_ble_eq_true rfl) ?_
  refine j_ineg C dX10_value_8 ?_
  obtain rfl := sp1 h
  exact j_iret C dX10_value_9 (Nat.le_of_ble_eq_true rfl) (Nat.le_of_ble_eq_true rfl) ⟨rfl, rfl⟩
/-! value -/
def v11_value (o : XS → Nat → Option Int32) (T : XS) (a0 : Nat) : Option Int32 :=
  (getO T a0 11).bind fun q1 =>
  some (q1.2.1 0)
theorem mt_v11_value {κ : jK} (hκ : jX κ) (G : Nat → Nat) {o : XS → Nat → Option Int32} {fo : Nat} (ho : okV κ G fo o) {T : XS} {a0 : Nat} {v : Int32} (h : v11_value o T a0 = some v) : jM κ yX11_value (ws_ yX11_value cX11_value 2 (some .int)) (fo + 2) 0 0 [.ref a0, .ref (G 13)] (wX κ G T) (fun u w' => u = some (.int v) ∧ w' = wX κ G T) := by
  rw [v11_value] at h
  refine jM.of (by decide) rfl (Nat.le_of_ble_eq_true rfl) fun Γ C _ => ?_
  show J κ Γ ((fo + 2), 0, 0, (fun u w' => u = some (.int v) ∧ w' = wX κ G T)) 2 (wX κ G T) 0 0 0 [some (.ref a0), some (.ref (G 13))] []
  refine j_aload_n C dX11_value_0 rfl rfl ?_
  obtain ⟨q1, g2, h⟩ := ob h
  refine jx_gi11 hκ C g2 0 (by decide) rfl q800 dX11_value_1 ?_
  obtain rfl := sp1 h
  exact j_iret C dX11_value_4 (Nat.le_of_ble_eq_true rfl) (Nat.le_of_ble_eq_true rfl) ⟨rfl, rfl⟩
theorem hG_v12_is : GoodIn lw_all (va_wsS "NineKeysRound$Pair" 24 yX12_is (ws_ yX12_is cX12_is 1 (some .int))) := lw_S q940 q941 q138 q942
theorem hy_v12_is : yX12_is.cls ≠ "java/lang/invoke/MethodHandle" ∧ yX12_is.cls ≠ "java/lang/invoke/VarHandle" ∧ (parseMethodDescriptor yX12_is.desc).map (fun d => d.parameters.length) = some 1 := ⟨by decide, by decide, by decide +kernel⟩
/-! is -/
def v12_is (p1 : Int32) : Option Int32 :=
  (if p1 = 0 then
  some 0
  else
  some 1)
theorem mt_v12_is {κ : jK} (hκ : jX κ) {w : jW} {p1 : Int32} {v : Int32} (h : v12_is p1 = some v) : jM κ yX12_is (ws_ yX12_is cX12_is 1 (some .int)) 0 0 0 [.int p1] (w) (fun u w' => u = some (.int v) ∧ w' = w) := by
  rw [v12_is] at h
  refine jM.of (by decide) rfl (Nat.le_of_ble_eq_true rfl) fun Γ C _ => ?_
  show J κ Γ (0, 0, 0, (fun u w' => u = some (.int v) ∧ w' = w)) 1 (w) 0 0 0 [some (.int p1)] []
  refine j_iload_n C dX12_is_0 rfl rfl ?_
  refine j_if_eq C dX12_is_1 (tgt := 8) (by decide) (fun c => ?_) (fun c => ?_)
  · replace h := ip c h
    refine j_iconst C (v := 0) dX12_is_8 rfl ?_
    obtain rfl := sp1 h
    exact j_iret C dX12_is_9 (Nat.le_of_ble_eq_true rfl) (Nat.le_of_ble_eq_true rfl) ⟨rfl, rfl⟩
  replace h := im c h
  refine j_iconst C (v := 1) dX12_is_4 rfl ?_
  refine j_goto C dX12_is_5 (tgt := 9) (by decide) ?_
  obtain rfl := sp1 h
  exact j_iret C dX12_is_9 (Nat.le_of_ble_eq_true rfl) (Nat.le_of_ble_eq_true rfl) ⟨rfl, rfl⟩
/-! value -/
def v12_value (o : XS → Nat → Option Int32) (T : XS) (a0 : Nat) : Option Int32 :=
  (getO T a0 12).bind fun q1 =>
  (q1.2.2.1 1).bind fun a3 =>
  (o T a3).bind fun v5 =>
  (getO T a0 12).bind fun q7 =>
  (q7.2.2.1 2).bind fun a9 =>
  (o T a9).bind fun v11 =>
  (getO T a0 12).bind fun q13 =>
  (if (q13.2.1 0) = 37 then
  (if v11 = 0 then
  some 0
  else
  (if v11 = (-1) then
  some 0
  else
  nz v11 (
  some (jrem v5 v11))))
  else if (q13.2.1 0) = 38 then
  (if v5 = 0 then
  (v12_is 0).bind fun v17 =>
  some v17
  else
  (if v11 = 0 then
  (v12_is 0).bind fun v19 =>
  some v19
  else
  (v12_is 1).bind fun v21 =>
  some v21))
  else if (q13.2.1 0) = 42 then
  some (v5 * v11)
  else if (q13.2.1 0) = 43 then
  some (v5 + v11)
  else if (q13.2.1 0) = 45 then
  some (v5 - v11)
  else if (q13.2.1 0) = 47 then
  (if v11 = 0 then
  some 0
  else
  (if v11 = (-1) then
  some (-v5)
  else
  nz v11 (
  some (v5 / v11))))
  else if (q13.2.1 0) = 60 then
  (if v11 ≤ v5 then
  (v12_is 0).bind fun v24 =>
  some v24
  else
  (v12_is 1).bind fun v26 =>
  some v26)
  else if (q13.2.1 0) = 61 then
  (if v5 = v11 then
  (v12_is 1).bind fun v30 =>
  some v30
  else
  (v12_is 0).bind fun v28 =>
  some v28)
  else if (q13.2.1 0) = 62 then
  (if v5 ≤ v11 then
  (v12_is 0).bind fun v32 =>
  some v32
  else
  (v12_is 1).bind fun v34 =>
  some v34)
  else 
  (if v5 = 0 then
  (if v11 = 0 then
  (v12_is 0).bind fun v38 =>
  some v38
  else
  (v12_is 1).bind fun v40 =>
  some v40)
  else
  (v12_is 1).bind fun v36 =>
  some v36))
theorem mt_v12_value {κ : jK} (hκ : jX κ) (G : Nat → Nat) {o : XS → Nat → Option Int32} {fo : Nat} (ho : okV κ G fo o) {T : XS} {a0 : Nat} {v : Int32} (h : v12_value o T a0 = some v) : jM κ yX12_value (ws_ yX12_value cX12_value 4 (some .int)) (fo + 2) 0 0 [.ref a0, .ref (G 13)] (wX κ G T) (fun u w' => u = some (.int v) ∧ w' = wX κ G T) := by
  rw [v12_value] at h
  refine jM.of (by decide) rfl (Nat.le_of_ble_eq_true rfl) fun Γ C _ => ?_
  show J κ Γ ((fo + 2), 0, 0, (fun u w' => u = some (.int v) ∧ w' = wX κ G T)) 4 (wX κ G T) 0 0 0 [some (.ref a0), some (.ref (G 13)), none, none] []
  refine j_aload_n C dX12_value_0 rfl rfl ?_
  obtain ⟨q1, g2, h⟩ := ob h
  refine jx_gr12 hκ C g2 1 (by decide) rfl q816 dX12_value_1 ?_
  refine j_aload_n C dX12_value_4 rfl rfl ?_
  obtain ⟨a3, w4, h⟩ := ob h
  obtain ⟨v5, e6, h⟩ := ob h
  refine jx_value hκ C ho jUV_X12 w4 e6 dX12_value_5 (by show _ ≤ _; omega) (Nat.le_of_ble_eq_true rfl) (Nat.le_of_ble_eq_true rfl) (Nat.le_of_ble_eq_true rfl) ?_
  refine j_istore_n C dX12_value_8 rfl (by decide) rfl ?_
  refine j_aload_n C dX12_value_9 rfl rfl ?_
  obtain ⟨q7, g8, h⟩ := ob h
  refine jx_gr12 hκ C g8 2 (by decide) rfl q817 dX12_value_10 ?_
  refine j_aload_n C dX12_value_13 rfl rfl ?_
  obtain ⟨a9, w10, h⟩ := ob h
  obtain ⟨v11, e12, h⟩ := ob h
  refine jx_value hκ C ho jUV_X12 w10 e12 dX12_value_14 (by show _ ≤ _; omega) (Nat.le_of_ble_eq_true rfl) (Nat.le_of_ble_eq_true rfl) (Nat.le_of_ble_eq_true rfl) ?_
  refine j_istore_n C dX12_value_17 rfl (by decide) rfl ?_
  refine j_aload_n C dX12_value_18 rfl rfl ?_
  obtain ⟨q13, g14, h⟩ := ob h
  refine jx_gi12 hκ C g14 0 (by decide) rfl q815 dX12_value_19 ?_
  by_cases c22_0 : (q13.2.1 0) = 37
  · replace h := ip c22_0 h
    refine j_tabEq C dX12_value_22 c22_0 (a := 37) rfl (by decide) (by decide) rfl (tgt := 174) (by decide) ?_
    refine j_iload_n C dX12_value_174 rfl rfl ?_
    refine j_if_eq C dX12_value_175 (tgt := 183) (by decide) (fun c => ?_) (fun c => ?_)
    · replace h := ip c h
      refine j_iconst C (v := 0) dX12_value_183 rfl ?_
      refine j_goto C dX12_value_184 (tgt := 190) (by decide) ?_
      obtain rfl := sp1 h
      exact j_iret C dX12_value_190 (Nat.le_of_ble_eq_true rfl) (Nat.le_of_ble_eq_true rfl) ⟨rfl, rfl⟩
    replace h := im c h
    refine j_iload_n C dX12_value_178 rfl rfl ?_
    refine j_iconst C (v := (-1)) dX12_value_179 rfl ?_
    refine j_icmp_ne C dX12_value_180 (tgt := 187) (by decide) (fun c => ?_) (fun c => ?_)
    · replace h := im c h
      refine j_iload_n C dX12_value_187 rfl rfl ?_
      refine j_iload_n C dX12_value_188 rfl rfl ?_
      obtain ⟨z15, h⟩ := nz_some h
      refine j_irem C dX12_value_189 z15 ?_
      obtain rfl := sp1 h
      exact j_iret C dX12_value_190 (Nat.le_of_ble_eq_true rfl) (Nat.le_of_ble_eq_true rfl) ⟨rfl, rfl⟩
    replace h := ip c h
    refine j_iconst C (v := 0) dX12_value_183 rfl ?_
    refine j_goto C dX12_value_184 (tgt := 190) (by decide) ?_
    obtain rfl := sp1 h
    exact j_iret C dX12_value_190 (Nat.le_of_ble_eq_true rfl) (Nat.le_of_ble_eq_true rfl) ⟨rfl, rfl⟩
  replace h := im c22_0 h
  by_cases c22_1 : (q13.2.1 0) = 38
  · replace h := ip c22_1 h
    refine j_tabEq C dX12_value_22 c22_1 (a := 38) rfl (by decide) (by decide) rfl (tgt := 233) (by decide) ?_
    refine j_iload_n C dX12_value_233 rfl rfl ?_
    refine j_if_eq C dX12_value_234 (tgt := 245) (by decide) (fun c => ?_) (fun c => ?_)
    · replace h := ip c h
      refine j_iconst C (v := 0) dX12_value_245 rfl ?_
      obtain ⟨v17, e16, h⟩ := ob h
      refine j_Si hκ.1.1 C (mt_v12_is hκ e16) hG_v12_is hy_v12_is rfl dX12_value_246 (jfit.of (by omega) (by decide) (Nat.le_of_ble_eq_true rfl) (Nat.le_of_ble_eq_true rfl) (Nat.le_of_ble_eq_true rfl)) rfl ?_
      obtain rfl := sp1 h
      exact j_iret C dX12_value_249 (Nat.le_of_ble_eq_true rfl) (Nat.le_of_ble_eq_true rfl) ⟨rfl, rfl⟩
    replace h := im c h
    refine j_iload_n C dX12_value_237 rfl rfl ?_
    refine j_if_eq C dX12_value_238 (tgt := 245) (by decide) (fun c => ?_) (fun c => ?_)
    · replace h := ip c h
      refine j_iconst C (v := 0) dX12_value_245 rfl ?_
      obtain ⟨v19, e18, h⟩ := ob h
      refine j_Si hκ.1.1 C (mt_v12_is hκ e18) hG_v12_is hy_v12_is rfl dX12_value_246 (jfit.of (by omega) (by decide) (Nat.le_of_ble_eq_true rfl) (Nat.le_of_ble_eq_true rfl) (Nat.le_of_ble_eq_true rfl)) rfl ?_
      obtain rfl := sp1 h
      exact j_iret C dX12_value_249 (Nat.le_of_ble_eq_true rfl) (Nat.le_of_ble_eq_true rfl) ⟨rfl, rfl⟩
    replace h := im c h
    refine j_iconst C (v := 1) dX12_value_241 rfl ?_
    refine j_goto C dX12_value_242 (tgt := 246) (by decide) ?_
    obtain ⟨v21, e20, h⟩ := ob h
    refine j_Si hκ.1.1 C (mt_v12_is hκ e20) hG_v12_is hy_v12_is rfl dX12_value_246 (jfit.of (by omega) (by decide) (Nat.le_of_ble_eq_true rfl) (Nat.le_of_ble_eq_true rfl) (Nat.le_of_ble_eq_true rfl)) rfl ?_
    obtain rfl := sp1 h
    exact j_iret C dX12_value_249 (Nat.le_of_ble_eq_true rfl) (Nat.le_of_ble_eq_true rfl) ⟨rfl, rfl⟩
  replace h := im c22_1 h
  by_cases c22_2 : (q13.2.1 0) = 42
  · replace h := ip c22_2 h
    refine j_tabEq C dX12_value_22 c22_2 (a := 42) rfl (by decide) (by decide) rfl (tgt := 148) (by decide) ?_
    refine j_iload_n C dX12_value_148 rfl rfl ?_
    refine j_iload_n C dX12_value_149 rfl rfl ?_
    refine j_imul C dX12_value_150 ?_
    obtain rfl := sp1 h
    exact j_iret C dX12_value_151 (Nat.le_of_ble_eq_true rfl) (Nat.le_of_ble_eq_true rfl) ⟨rfl, rfl⟩
  replace h := im c22_2 h
  by_cases c22_3 : (q13.2.1 0) = 43
  · replace h := ip c22_3 h
    refine j_tabEq C dX12_value_22 c22_3 (a := 43) rfl (by decide) (by decide) rfl (tgt := 140) (by decide) ?_
    refine j_iload_n C dX12_value_140 rfl rfl ?_
    refine j_iload_n C dX12_value_141 rfl rfl ?_
    refine j_iadd C dX12_value_142 ?_
    obtain rfl := sp1 h
    exact j_iret C dX12_value_143 (Nat.le_of_ble_eq_true rfl) (Nat.le_of_ble_eq_true rfl) ⟨rfl, rfl⟩
  replace h := im c22_3 h
  by_cases c22_4 : (q13.2.1 0) = 45
  · replace h := ip c22_4 h
    refine j_tabEq C dX12_value_22 c22_4 (a := 45) rfl (by decide) (by decide) rfl (tgt := 144) (by decide) ?_
    refine j_iload_n C dX12_value_144 rfl rfl ?_
    refine j_iload_n C dX12_value_145 rfl rfl ?_
    refine j_isub C dX12_value_146 ?_
    obtain rfl := sp1 h
    exact j_iret C dX12_value_147 (Nat.le_of_ble_eq_true rfl) (Nat.le_of_ble_eq_true rfl) ⟨rfl, rfl⟩
  replace h := im c22_4 h
  by_cases c22_5 : (q13.2.1 0) = 47
  · replace h := ip c22_5 h
    refine j_tabEq C dX12_value_22 c22_5 (a := 47) rfl (by decide) (by decide) rfl (tgt := 152) (by decide) ?_
    refine j_iload_n C dX12_value_152 rfl rfl ?_
    refine j_if_ne C dX12_value_153 (tgt := 160) (by decide) (fun c => ?_) (fun c => ?_)
    · replace h := im c h
      refine j_iload_n C dX12_value_160 rfl rfl ?_
      refine j_iconst C (v := (-1)) dX12_value_161 rfl ?_
      refine j_icmp_ne C dX12_value_162 (tgt := 170) (by decide) (fun c => ?_) (fun c => ?_)
      · replace h := im c h
        refine j_iload_n C dX12_value_170 rfl rfl ?_
        refine j_iload_n C dX12_value_171 rfl rfl ?_
        obtain ⟨z22, h⟩ := nz_some h
        refine j_idiv C dX12_value_172 z22 ?_
        obtain rfl := sp1 h
        exact j_iret C dX12_value_173 (Nat.le_of_ble_eq_true rfl) (Nat.le_of_ble_eq_true rfl) ⟨rfl, rfl⟩
      replace h := ip c h
      refine j_iload_n C dX12_value_165 rfl rfl ?_
      refine j_ineg C dX12_value_166 ?_
      refine j_goto C dX12_value_167 (tgt := 173) (by decide) ?_
      obtain rfl := sp1 h
      exact j_iret C dX12_value_173 (Nat.le_of_ble_eq_true rfl) (Nat.le_of_ble_eq_true rfl) ⟨rfl, rfl⟩
    replace h := ip c h
    refine j_iconst C (v := 0) dX12_value_156 rfl ?_
    refine j_goto C dX12_value_157 (tgt := 173) (by decide) ?_
    obtain rfl := sp1 h
    exact j_iret C dX12_value_173 (Nat.le_of_ble_eq_true rfl) (Nat.le_of_ble_eq_true rfl) ⟨rfl, rfl⟩
  replace h := im c22_5 h
  by_cases c22_6 : (q13.2.1 0) = 60
  · replace h := ip c22_6 h
    refine j_tabEq C dX12_value_22 c22_6 (a := 60) rfl (by decide) (by decide) rfl (tgt := 191) (by decide) ?_
    refine j_iload_n C dX12_value_191 rfl rfl ?_
    refine j_iload_n C dX12_value_192 rfl rfl ?_
    refine j_icmp_ge C dX12_value_193 (tgt := 200) (by decide) (fun c => ?_) (fun c => ?_)
    · replace h := ip c h
      refine j_iconst C (v := 0) dX12_value_200 rfl ?_
      obtain ⟨v24, e23, h⟩ := ob h
      refine j_Si hκ.1.1 C (mt_v12_is hκ e23) hG_v12_is hy_v12_is rfl dX12_value_201 (jfit.of (by omega) (by decide) (Nat.le_of_ble_eq_true rfl) (Nat.le_of_ble_eq_true rfl) (Nat.le_of_ble_eq_true rfl)) rfl ?_
      obtain rfl := sp1 h
      exact j_iret C dX12_value_204 (Nat.le_of_ble_eq_true rfl) (Nat.le_of_ble_eq_true rfl) ⟨rfl, rfl⟩
    replace h := im c h
    refine j_iconst C (v := 1) dX12_value_196 rfl ?_
    refine j_goto C dX12_value_197 (tgt := 201) (by decide) ?_
    obtain ⟨v26, e25, h⟩ := ob h
    refine j_Si hκ.1.1 C (mt_v12_is hκ e25) hG_v12_is hy_v12_is rfl dX12_value_201 (jfit.of (by omega) (by decide) (Nat.le_of_ble_eq_true rfl) (Nat.le_of_ble_eq_true rfl) (Nat.le_of_ble_eq_true rfl)) rfl ?_
    obtain rfl := sp1 h
    exact j_iret C dX12_value_204 (Nat.le_of_ble_eq_true rfl) (Nat.le_of_ble_eq_true rfl) ⟨rfl, rfl⟩
  replace h := im c22_6 h
  by_cases c22_7 : (q13.2.1 0) = 61
  · replace h := ip c22_7 h
    refine j_tabEq C dX12_value_22 c22_7 (a := 61) rfl (by decide) (by decide) rfl (tgt := 205) (by decide) ?_
    refine j_iload_n C dX12_value_205 rfl rfl ?_
    refine j_iload_n C dX12_value_206 rfl rfl ?_
    refine j_icmp_ne C dX12_value_207 (tgt := 214) (by decide) (fun c => ?_) (fun c => ?_)
    · replace h := im c h
      refine j_iconst C (v := 0) dX12_value_214 rfl ?_
      obtain ⟨v28, e27, h⟩ := ob h
      refine j_Si hκ.1.1 C (mt_v12_is hκ e27) hG_v12_is hy_v12_is rfl dX12_value_215 (jfit.of (by omega) (by decide) (Nat.le_of_ble_eq_true rfl) (Nat.le_of_ble_eq_true rfl) (Nat.le_of_ble_eq_true rfl)) rfl ?_
      obtain rfl := sp1 h
      exact j_iret C dX12_value_218 (Nat.le_of_ble_eq_true rfl) (Nat.le_of_ble_eq_true rfl) ⟨rfl, rfl⟩
    replace h := ip c h
    refine j_iconst C (v := 1) dX12_value_210 rfl ?_
    refine j_goto C dX12_value_211 (tgt := 215) (by decide) ?_
    obtain ⟨v30, e29, h⟩ := ob h
    refine j_Si hκ.1.1 C (mt_v12_is hκ e29) hG_v12_is hy_v12_is rfl dX12_value_215 (jfit.of (by omega) (by decide) (Nat.le_of_ble_eq_true rfl) (Nat.le_of_ble_eq_true rfl) (Nat.le_of_ble_eq_true rfl)) rfl ?_
    obtain rfl := sp1 h
    exact j_iret C dX12_value_218 (Nat.le_of_ble_eq_true rfl) (Nat.le_of_ble_eq_true rfl) ⟨rfl, rfl⟩
  replace h := im c22_7 h
  by_cases c22_8 : (q13.2.1 0) = 62
  · replace h := ip c22_8 h
    refine j_tabEq C dX12_value_22 c22_8 (a := 62) rfl (by decide) (by decide) rfl (tgt := 219) (by decide) ?_
    refine j_iload_n C dX12_value_219 rfl rfl ?_
    refine j_iload_n C dX12_value_220 rfl rfl ?_
    refine j_icmp_le C dX12_value_221 (tgt := 228) (by decide) (fun c => ?_) (fun c => ?_)
    · replace h := ip c h
      refine j_iconst C (v := 0) dX12_value_228 rfl ?_
      obtain ⟨v32, e31, h⟩ := ob h
      refine j_Si hκ.1.1 C (mt_v12_is hκ e31) hG_v12_is hy_v12_is rfl dX12_value_229 (jfit.of (by omega) (by decide) (Nat.le_of_ble_eq_true rfl) (Nat.le_of_ble_eq_true rfl) (Nat.le_of_ble_eq_true rfl)) rfl ?_
      obtain rfl := sp1 h
      exact j_iret C dX12_value_232 (Nat.le_of_ble_eq_true rfl) (Nat.le_of_ble_eq_true rfl) ⟨rfl, rfl⟩
    replace h := im c h
    refine j_iconst C (v := 1) dX12_value_224 rfl ?_
    refine j_goto C dX12_value_225 (tgt := 229) (by decide) ?_
    obtain ⟨v34, e33, h⟩ := ob h
    refine j_Si hκ.1.1 C (mt_v12_is hκ e33) hG_v12_is hy_v12_is rfl dX12_value_229 (jfit.of (by omega) (by decide) (Nat.le_of_ble_eq_true rfl) (Nat.le_of_ble_eq_true rfl) (Nat.le_of_ble_eq_true rfl)) rfl ?_
    obtain rfl := sp1 h
    exact j_iret C dX12_value_232 (Nat.le_of_ble_eq_true rfl) (Nat.le_of_ble_eq_true rfl) ⟨rfl, rfl⟩
  replace h := im c22_8 h
  refine j_tabDef C [37, 38, 42, 43, 45, 47, 60, 61, 62] dX12_value_22 ⟨tab_ne c22_0 rfl, tab_ne c22_1 rfl, tab_ne c22_2 rfl, tab_ne c22_3 rfl, tab_ne c22_4 rfl, tab_ne c22_5 rfl, tab_ne c22_6 rfl, tab_ne c22_7 rfl, tab_ne c22_8 rfl, trivial⟩ rfl rfl (tgt := 250) (by decide) ?_
  refine j_iload_n C dX12_value_250 rfl rfl ?_
  refine j_if_ne C dX12_value_251 (tgt := 258) (by decide) (fun c => ?_) (fun c => ?_)
  · replace h := im c h
    refine j_iconst C (v := 1) dX12_value_258 rfl ?_
    refine j_goto C dX12_value_259 (tgt := 263) (by decide) ?_
    obtain ⟨v36, e35, h⟩ := ob h
    refine j_Si hκ.1.1 C (mt_v12_is hκ e35) hG_v12_is hy_v12_is rfl dX12_value_263 (jfit.of (by omega) (by decide) (Nat.le_of_ble_eq_true rfl) (Nat.le_of_ble_eq_true rfl) (Nat.le_of_ble_eq_true rfl)) rfl ?_
    obtain rfl := sp1 h
    exact j_iret C dX12_value_266 (Nat.le_of_ble_eq_true rfl) (Nat.le_of_ble_eq_true rfl) ⟨rfl, rfl⟩
  replace h := ip c h
  refine j_iload_n C dX12_value_254 rfl rfl ?_
  refine j_if_eq C dX12_value_255 (tgt := 262) (by decide) (fun c => ?_) (fun c => ?_)
  · replace h := ip c h
    refine j_iconst C (v := 0) dX12_value_262 rfl ?_
    obtain ⟨v38, e37, h⟩ := ob h
    refine j_Si hκ.1.1 C (mt_v12_is hκ e37) hG_v12_is hy_v12_is rfl dX12_value_263 (jfit.of (by omega) (by decide) (Nat.le_of_ble_eq_true rfl) (Nat.le_of_ble_eq_true rfl) (Nat.le_of_ble_eq_true rfl)) rfl ?_
    obtain rfl := sp1 h
    exact j_iret C dX12_value_266 (Nat.le_of_ble_eq_true rfl) (Nat.le_of_ble_eq_true rfl) ⟨rfl, rfl⟩
  replace h := im c h
  refine j_iconst C (v := 1) dX12_value_258 rfl ?_
  refine j_goto C dX12_value_259 (tgt := 263) (by decide) ?_
  obtain ⟨v40, e39, h⟩ := ob h
  refine j_Si hκ.1.1 C (mt_v12_is hκ e39) hG_v12_is hy_v12_is rfl dX12_value_263 (jfit.of (by omega) (by decide) (Nat.le_of_ble_eq_true rfl) (Nat.le_of_ble_eq_true rfl) (Nat.le_of_ble_eq_true rfl)) rfl ?_
  obtain rfl := sp1 h
  exact j_iret C dX12_value_266 (Nat.le_of_ble_eq_true rfl) (Nat.le_of_ble_eq_true rfl) ⟨rfl, rfl⟩
def x_val : Nat → XS → Nat → Option Int32
  | 0, _, _ => none
  | d + 1, T, q => (T.2.2.2 q).bind fun x => if x.1 = 8 then v8_value (x_val d) T q else if x.1 = 9 then v9_value (x_val d) T q else if x.1 = 10 then v10_value (x_val d) T q else if x.1 = 11 then v11_value (x_val d) T q else if x.1 = 12 then v12_value (x_val d) T q else none
theorem mt_x_val {κ : jK} (hκ : jX κ) (G : Nat → Nat) : ∀ d : Nat, okV κ G (2 * d) (x_val d) := by
  intro d
  induction d with
  | zero => intro T q v h; cases h
  | succ d ih =>
    intro T q v h
    rw [x_val] at h
    obtain ⟨x, hx, h⟩ := ob h
    refine ⟨x, hx, ?_⟩
    by_cases c : x.1 = 8
    · exact Or.inl ⟨c, mt_v8_value hκ G ih (ip c h)⟩
    replace h := im c h
    refine Or.inr ?_
    by_cases c : x.1 = 9
    · exact Or.inl ⟨c, mt_v9_value hκ G ih (ip c h)⟩
    replace h := im c h
    refine Or.inr ?_
    by_cases c : x.1 = 10
    · exact Or.inl ⟨c, mt_v10_value hκ G ih (ip c h)⟩
    replace h := im c h
    refine Or.inr ?_
    by_cases c : x.1 = 11
    · exact Or.inl ⟨c, mt_v11_value hκ G ih (ip c h)⟩
    replace h := im c h
    refine Or.inr ?_
    by_cases c : x.1 = 12
    · exact ⟨c, mt_v12_value hκ G ih (ip c h)⟩
    replace h := im c h
    cases h
