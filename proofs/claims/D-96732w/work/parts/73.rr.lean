set_option maxRecDepth 100000
theorem hG_r_wrong : GoodIn lw_all (wsV "NineKeysRound$Reader" 109 yX5_wrong.cls yX5_wrong (ws_ yX5_wrong cX5_wrong 1 (some (.object "NineKeysRound$Node")))) := lw_V q769 q771 qs18 q126 q772
theorem hy_r_wrong : yX5_wrong.cls ≠ "java/lang/invoke/MethodHandle" ∧ yX5_wrong.cls ≠ "java/lang/invoke/VarHandle" ∧ (parseMethodDescriptor yX5_wrong.desc).map (fun d => d.parameters.length) = some 0 := ⟨by decide, by decide, by decide +kernel⟩
theorem hG_r_joined : GoodIn lw_all (wsV "NineKeysRound$Reader" 69 yX5_joined.cls yX5_joined (ws_ yX5_joined cX5_joined 4 (some (.object "NineKeysRound$Node")))) := lw_V q805 q807 qs19 q126 q808
theorem hy_r_joined : yX5_joined.cls ≠ "java/lang/invoke/MethodHandle" ∧ yX5_joined.cls ≠ "java/lang/invoke/VarHandle" ∧ (parseMethodDescriptor yX5_joined.desc).map (fun d => d.parameters.length) = some 3 := ⟨by decide, by decide, by decide +kernel⟩
theorem hG_r_line : GoodIn lw_all (wsV "NineKeysRound$Reader" 39 yX5_line.cls yX5_line (ws_ yX5_line cX5_line 2 (some (.object "NineKeysRound$Line")))) := lw_V q610 q612 qs8 q126 q613
theorem hy_r_line : yX5_line.cls ≠ "java/lang/invoke/MethodHandle" ∧ yX5_line.cls ≠ "java/lang/invoke/VarHandle" ∧ (parseMethodDescriptor yX5_line.desc).map (fun d => d.parameters.length) = some 0 := ⟨by decide, by decide, by decide +kernel⟩
theorem hG_r_either : GoodIn lw_all (wsV "NineKeysRound$Reader" 50 yX5_either.cls yX5_either (ws_ yX5_either cX5_either 2 (some (.object "NineKeysRound$Node")))) := lw_V q633 q635 qs9 q126 q636
theorem hy_r_either : yX5_either.cls ≠ "java/lang/invoke/MethodHandle" ∧ yX5_either.cls ≠ "java/lang/invoke/VarHandle" ∧ (parseMethodDescriptor yX5_either.desc).map (fun d => d.parameters.length) = some 0 := ⟨by decide, by decide, by decide +kernel⟩
theorem hG_r_all : GoodIn lw_all (wsV "NineKeysRound$Reader" 66 yX5_all.cls yX5_all (ws_ yX5_all cX5_all 2 (some (.object "NineKeysRound$Node")))) := lw_V q637 q639 qs10 q126 q640
theorem hy_r_all : yX5_all.cls ≠ "java/lang/invoke/MethodHandle" ∧ yX5_all.cls ≠ "java/lang/invoke/VarHandle" ∧ (parseMethodDescriptor yX5_all.desc).map (fun d => d.parameters.length) = some 0 := ⟨by decide, by decide, by decide +kernel⟩
theorem hG_r_compared : GoodIn lw_all (wsV "NineKeysRound$Reader" 73 yX5_compared.cls yX5_compared (ws_ yX5_compared cX5_compared 3 (some (.object "NineKeysRound$Node")))) := lw_V q641 q643 qs11 q126 q644
theorem hy_r_compared : yX5_compared.cls ≠ "java/lang/invoke/MethodHandle" ∧ yX5_compared.cls ≠ "java/lang/invoke/VarHandle" ∧ (parseMethodDescriptor yX5_compared.desc).map (fun d => d.parameters.length) = some 0 := ⟨by decide, by decide, by decide +kernel⟩
theorem hG_r_sum : GoodIn lw_all (wsV "NineKeysRound$Reader" 76 yX5_sum.cls yX5_sum (ws_ yX5_sum cX5_sum 3 (some (.object "NineKeysRound$Node")))) := lw_V q645 q647 qs12 q126 q648
theorem hy_r_sum : yX5_sum.cls ≠ "java/lang/invoke/MethodHandle" ∧ yX5_sum.cls ≠ "java/lang/invoke/VarHandle" ∧ (parseMethodDescriptor yX5_sum.desc).map (fun d => d.parameters.length) = some 0 := ⟨by decide, by decide, by decide +kernel⟩
theorem hG_r_product : GoodIn lw_all (wsV "NineKeysRound$Reader" 85 yX5_product.cls yX5_product (ws_ yX5_product cX5_product 3 (some (.object "NineKeysRound$Node")))) := lw_V q649 q651 qs13 q126 q652
theorem hy_r_product : yX5_product.cls ≠ "java/lang/invoke/MethodHandle" ∧ yX5_product.cls ≠ "java/lang/invoke/VarHandle" ∧ (parseMethodDescriptor yX5_product.desc).map (fun d => d.parameters.length) = some 0 := ⟨by decide, by decide, by decide +kernel⟩
theorem hG_r_operand : GoodIn lw_all (wsV "NineKeysRound$Reader" 90 yX5_operand.cls yX5_operand (ws_ yX5_operand cX5_operand 4 (some (.object "NineKeysRound$Node")))) := lw_V q653 q655 qs14 q126 q656
theorem hy_r_operand : yX5_operand.cls ≠ "java/lang/invoke/MethodHandle" ∧ yX5_operand.cls ≠ "java/lang/invoke/VarHandle" ∧ (parseMethodDescriptor yX5_operand.desc).map (fun d => d.parameters.length) = some 0 := ⟨by decide, by decide, by decide +kernel⟩
theorem hG_r_isOne : GoodIn lw_all (wsV "NineKeysRound$Reader" 81 yX5_isOne.cls yX5_isOne (ws_ yX5_isOne cX5_isOne 2 (some .boolean))) := lw_V q662 q664 qs16 q126 q665
theorem hy_r_isOne : yX5_isOne.cls ≠ "java/lang/invoke/MethodHandle" ∧ yX5_isOne.cls ≠ "java/lang/invoke/VarHandle" ∧ (parseMethodDescriptor yX5_isOne.desc).map (fun d => d.parameters.length) = some 1 := ⟨by decide, by decide, by decide +kernel⟩
theorem hG_r_lines_x : GoodIn lw_all (wsV "NineKeysRound" 200 yX5_lines.cls yX5_lines (ws_ yX5_lines cX5_lines 3 (some (.object "NineKeysRound$Line")))) := lw_V q606 q607 q608 q126 q609
theorem hy_r_lines : yX5_lines.cls ≠ "java/lang/invoke/MethodHandle" ∧ yX5_lines.cls ≠ "java/lang/invoke/VarHandle" ∧ (parseMethodDescriptor yX5_lines.desc).map (fun d => d.parameters.length) = some 0 := ⟨by decide, by decide, by decide +kernel⟩
/-! wrong -/
def r_wrong (Q : (Option Nat) → XS → Prop) (a0 : Nat) (m : Nat) (T : XS) : Prop :=
  bindP (getO T a0 5) fun q1 =>
  (if 0 ≤ (q1.2.1 1) then
  Q none T
  else
  bindP (getO T a0 5) fun q3 =>
  bindP (getO T a0 5) fun q5 =>
  nmP (xO T a0 (oI q5 1 (q3.2.1 0))) fun T7 =>
  Q none T7)
theorem mt_r_wrong {κ : jK} (hκ : jX κ) (G : Nat → Nat) {sa : Nat → Nat} (hl : jLits κ sa) {m : Nat} {a0 : Nat} {T : XS} {Q : (Option Nat) → XS → Prop} (h : r_wrong Q a0 m T) : jM κ yX5_wrong (ws_ yX5_wrong cX5_wrong 1 (some (.object "NineKeysRound$Node"))) 0 m (64 * m) [.ref a0] (wX κ G T) (fun u w' => ∃ v T', Q v T' ∧ u = some (va_rf v) ∧ w' = wX κ G T') := by
  rw [r_wrong] at h
  refine jM.of (by decide) rfl (Nat.le_of_ble_eq_true rfl) fun Γ C _ => ?_
  show J κ Γ (0, m, 64 * m, (fun u w' => ∃ v T', Q v T' ∧ u = some (va_rf v) ∧ w' = wX κ G T')) 1 (wX κ G T) 0 (64 * 0) 0 [some (.ref a0)] []
  have hb : 0 + m ≤ m := by omega
  refine j_aload_n C dX5_wrong_0 rfl rfl ?_
  obtain ⟨q1, g2, h⟩ := obP h
  refine jx_gi5 hκ C g2 1 (by decide) rfl q593 dX5_wrong_1 ?_
  refine j_if_ge C dX5_wrong_4 (tgt := 15) (by decide) (fun c => ?_) (fun c => ?_)
  · replace h := ipP c h
    refine j_null C dX5_wrong_15 ?_
    exact j_aret C (e := none) (Or.inl ⟨_, rfl⟩) dX5_wrong_16 (by first | omega | (dsimp only; omega)) (by first | omega | (dsimp only; omega)) ⟨_, _, h, rfl, rfl⟩
  replace h := imP c h
  refine j_aload_n C dX5_wrong_7 rfl rfl ?_
  refine j_aload_n C dX5_wrong_8 rfl rfl ?_
  obtain ⟨q3, g4, h⟩ := obP h
  refine jx_gi5 hκ C g4 0 (by decide) rfl q592 dX5_wrong_9 ?_
  obtain ⟨q5, g6, h⟩ := obP h
  refine jx_pi5 hκ C g6 1 (by decide) rfl rfl rfl q593 dX5_wrong_12 ?_
  refine jx_nmTP h (fun T7 h => ?_)
  refine j_null C dX5_wrong_15 ?_
  exact j_aret C (e := none) (Or.inl ⟨_, rfl⟩) dX5_wrong_16 (by first | omega | (dsimp only; omega)) (by first | omega | (dsimp only; omega)) ⟨_, _, h, rfl, rfl⟩
/-! joined -/
def r_joined (Q : (Option Nat) → XS → Prop) (a0 : Nat) (m : Nat) (T : XS) (p1 : Int32) (p2 : (Option Nat)) (p3 : (Option Nat)) : Prop :=
  bindP (getO T a0 5) fun q1 =>
  (if (q1.2.1 1) < 0 then
  budP m 1 fun m3 =>
  newP T fun q6 =>
  nmP (xO T q6 (mkO 12 [p1] [none, p2, p3])) fun T7 =>
  Q (some q6) T7
  else
  Q none T)
theorem mt_r_joined {κ : jK} (hκ : jX κ) (G : Nat → Nat) {sa : Nat → Nat} (hl : jLits κ sa) {m : Nat} {a0 : Nat} {T : XS} {p1 : Int32} {p2 : (Option Nat)} {p3 : (Option Nat)} {Q : (Option Nat) → XS → Prop} (h : r_joined Q a0 m T p1 p2 p3) : jM κ yX5_joined (ws_ yX5_joined cX5_joined 4 (some (.object "NineKeysRound$Node"))) 3 m (64 * m) [.ref a0, .int p1, va_rf p2, va_rf p3] (wX κ G T) (fun u w' => ∃ v T', Q v T' ∧ u = some (va_rf v) ∧ w' = wX κ G T') := by
  rw [r_joined] at h
  refine jM.of (by decide) rfl (by cases p2 <;> cases p3 <;> exact Nat.le_of_ble_eq_true rfl) fun Γ C _ => ?_
  rw [show jent [.ref a0, .int p1, va_rf p2, va_rf p3] 4 = [some (.ref a0), some (.int p1), some (va_rf p2), some (va_rf p3)] from by cases p2 <;> cases p3 <;> rfl]
  show J κ Γ (3, m, 64 * m, (fun u w' => ∃ v T', Q v T' ∧ u = some (va_rf v) ∧ w' = wX κ G T')) 4 (wX κ G T) 0 (64 * 0) 0 [some (.ref a0), some (.int p1), some (va_rf p2), some (va_rf p3)] []
  have hb : 0 + m ≤ m := by omega
  refine j_aload_n C dX5_joined_0 rfl rfl ?_
  obtain ⟨q1, g2, h⟩ := obP h
  refine jx_gi5 hκ C g2 1 (by decide) rfl q593 dX5_joined_1 ?_
  refine j_if_lt C dX5_joined_4 (tgt := 11) (by decide) (fun c => ?_) (fun c => ?_)
  · replace h := ipP c h
    obtain ⟨m3, e4, h⟩ := h
    have hb5 : 0 + 1 + m3 ≤ m := by omega
    refine jx_newB hκ C 12 in_X12 tyX12 tyX12_ok q809 q810 q138 rfl (by intro j hj; rcases j with _ | _ | _ | _ | _ | j <;> first | rfl | omega) (by decide) (by first | omega | (dsimp only; omega)) (by first | omega | (dsimp only; omega)) dX5_joined_11 h (fun q6 h => ?_)
    refine j_dup C dX5_joined_14 rfl ?_
    refine j_iload_n C dX5_joined_15 rfl rfl ?_
    refine j_aloadE_n C (e := p2) dX5_joined_16 rfl rfl ?_
    refine j_aloadE_n C (e := p3) dX5_joined_17 rfl rfl ?_
    refine jx_I hκ C (mt_n12 hκ G _ _ p1 p2 p3) q813 q138 q811 q812 rfl (N := 3) ⟨by decide, by decide, by decide +kernel⟩ rfl dX5_joined_18 ⟨Nat.le_of_ble_eq_true rfl, by decide, (by first | omega | (dsimp only; omega)), (by first | omega | (dsimp only; omega)), Nat.le_of_ble_eq_true rfl⟩ rfl ?_
    refine jx_nmTP h (fun T7 h => ?_)
    exact j_aret C (e := (some q6)) (Or.inl ⟨_, rfl⟩) dX5_joined_21 (by first | omega | (dsimp only; omega)) (by first | omega | (dsimp only; omega)) ⟨_, _, h, rfl, rfl⟩
  replace h := imP c h
  refine j_null C dX5_joined_7 ?_
  refine j_goto C dX5_joined_8 (tgt := 21) (by decide) ?_
  exact j_aret C (e := none) (Or.inl ⟨_, rfl⟩) dX5_joined_21 (by first | omega | (dsimp only; omega)) (by first | omega | (dsimp only; omega)) ⟨_, _, h, rfl, rfl⟩
/-! product -/
def r_product_b5 (Q : (Option Nat) → XS → Prop) (o : rO) (N : Nat) (a0 : Nat) : Nat → Nat → XS → (Option Nat) → Prop
  | 0, _, _, _ => False
  | n + 1, m, T, l1 =>
    bindP (getO T a0 5) fun q1 =>
    (if 0 ≤ (q1.2.1 1) then
    Q l1 T
    else
    bindP (getO T a0 5) fun q3 =>
    bindP (r_one 1 T a0) fun v5 =>
    (if (b2i v5) = 0 then
    Q l1 T
    else
    bindP (getO T a0 5) fun q9 =>
    bindP (r_here T a0) fun v8 =>
    bindP (getO T a0 5) fun q11 =>
    bindP (getO T a0 5) fun q13 =>
    nmP (xO T a0 (oI q13 0 ((q11.2.1 0) + 1))) fun T15 =>
    bindP (getO T15 a0 5) fun q16 =>
    splP m fun m19 m20 =>
    o (fun v18 T23 =>
    bindP (getO T23 a0 5) fun q24 =>
    splP m20 fun m27 m28 =>
    r_joined (fun v26 T31 =>
    r_product_b5 Q o N a0 n m28 T31 v26) a0 m27 T23 v8 l1 v18) a0 m19 T15))
theorem wr_product_b5 {κ : jK} (hκ : jX κ) (N : Nat) {MM : Nat} {Γ : jG} (C : jC κ Γ cX5_product 3 RX5 (some (.object "NineKeysRound$Node"))) {G : Nat → Nat} {sa : Nat → Nat} (hl : jLits κ sa) {o : rO} {fo : Nat} (ho : okO κ G fo o) {a0 : Nat}  {Q : (Option Nat) → XS → Prop} : ∀ (n : Nat) (m : Nat) (T : XS) (l1 : (Option Nat)), r_product_b5 Q o N a0 n m T l1 → ∀ k : Nat, k + m ≤ MM → J κ Γ ((fo + 6), MM, 64 * MM, (fun u w' => ∃ v T', Q v T' ∧ u = some (va_rf v) ∧ w' = wX κ G T')) 3 (wX κ G T) k (64 * k) 5 [some (.ref a0), some (va_rf l1), none] [] := by
  intro n
  induction n with
  | zero => intro _ _ _ h; cases h
  | succ n ih =>
    intro m T l1 h k hb
    rw [r_product_b5] at h
    refine j_aload_n C dX5_product_5 rfl rfl ?_
    obtain ⟨q1, g2, h⟩ := obP h
    refine jx_gi5 hκ C g2 1 (by decide) rfl q593 dX5_product_6 ?_
    refine j_if_ge C dX5_product_9 (tgt := 50) (by decide) (fun c => ?_) (fun c => ?_)
    · replace h := ipP c h
      refine j_aloadE_n C (e := l1) dX5_product_50 rfl rfl ?_
      exact j_aret C (e := l1) (Or.inl ⟨_, rfl⟩) dX5_product_51 (by first | omega | (dsimp only; omega)) (by first | omega | (dsimp only; omega)) ⟨_, _, h, rfl, rfl⟩
    replace h := imP c h
    refine j_aload_n C dX5_product_12 rfl rfl ?_
    refine j_ldcS C (tx := "*/%") (hl.2 1 (by decide)) dX5_product_13 ?_
    obtain ⟨q3, g4, h⟩ := obP h
    obtain ⟨v5, e6, h⟩ := obP h
    refine jx_Oi hκ C (mt_r_one hκ G hl 1 (by decide) e6) hG_r_isOne hy_r_isOne rfl g4 (by decide) rfl rfl dX5_product_15 ⟨(by first | omega | (dsimp only; omega)), by decide, (by first | omega | (dsimp only; omega)), (by first | omega | (dsimp only; omega)), (Nat.le_of_ble_eq_true rfl)⟩ rfl ?_
    refine j_if_eq C dX5_product_18 (tgt := 50) (by decide) (fun c => ?_) (fun c => ?_)
    · replace h := ipP c h
      refine j_aloadE_n C (e := l1) dX5_product_50 rfl rfl ?_
      exact j_aret C (e := l1) (Or.inl ⟨_, rfl⟩) dX5_product_51 (by first | omega | (dsimp only; omega)) (by first | omega | (dsimp only; omega)) ⟨_, _, h, rfl, rfl⟩
    replace h := imP c h
    refine j_aload_n C dX5_product_21 rfl rfl ?_
    obtain ⟨q9, g10, h⟩ := obP h
    obtain ⟨v8, e7, h⟩ := obP h
    refine jx_Oi hκ C (mt_r_here hκ G e7) hG_r_here hy_r_here rfl g10 (by decide) rfl rfl dX5_product_22 (jfit.of (by first | omega | (dsimp only; omega)) (by decide) (by first | omega | (dsimp only; omega)) (by first | omega | (dsimp only; omega)) (Nat.le_of_ble_eq_true rfl)) rfl ?_
    refine j_istore_n C dX5_product_25 rfl (by decide) (jok_rf rfl) ?_
    refine j_aload_n C dX5_product_26 rfl rfl ?_
    refine j_dup C dX5_product_27 rfl ?_
    obtain ⟨q11, g12, h⟩ := obP h
    refine jx_gi5 hκ C g12 0 (by decide) rfl q592 dX5_product_28 ?_
    refine j_iconst C (v := 1) dX5_product_31 rfl ?_
    refine j_iadd C dX5_product_32 ?_
    obtain ⟨q13, g14, h⟩ := obP h
    refine jx_pi5 hκ C g14 0 (by decide) rfl rfl rfl q592 dX5_product_33 ?_
    refine jx_nmTP h (fun T15 h => ?_)
    refine j_aload_n C dX5_product_36 rfl rfl ?_
    refine j_iload_n C dX5_product_37 rfl rfl ?_
    refine j_aloadE_n C (e := l1) dX5_product_38 rfl rfl ?_
    refine j_aload_n C dX5_product_39 rfl rfl ?_
    obtain ⟨q16, g17, h⟩ := obP h
    obtain ⟨m19, m20, e21, h⟩ := h
    have hb22 : k + m19 + m20 ≤ MM := by omega
    refine jx_OQB hκ C (ho h) hG_r_operand hy_r_operand rfl g17 (by decide) rfl rfl dX5_product_40 ⟨(by first | omega | (dsimp only; omega)), by decide, (by first | omega | (dsimp only; omega)), (by first | omega | (dsimp only; omega)), (by cases l1 <;> exact Nat.le_of_ble_eq_true rfl)⟩ rfl (fun v18 T23 h => ?_)
    obtain ⟨q24, g25, h⟩ := obP h
    obtain ⟨m27, m28, e29, h⟩ := h
    have hb30 : (k + m19) + m27 + m28 ≤ MM := by omega
    refine jx_OQB hκ C (mt_r_joined hκ  G hl  h) hG_r_joined hy_r_joined rfl g25 (by decide) rfl rfl dX5_product_43 ⟨(by first | omega | (dsimp only; omega)), by decide, (by first | omega | (dsimp only; omega)), (by first | omega | (dsimp only; omega)), (Nat.le_of_ble_eq_true rfl)⟩ rfl (fun v26 T31 h => ?_)
    refine j_astoreE_n C (e := v26) dX5_product_46 rfl (by decide) rfl ?_
    refine j_goto C dX5_product_47 (tgt := 5) (by decide) ?_
    exact j_sub (ih _ _ _ h _ hb30) ⟨rfl, ⟨rfl, trivial⟩⟩
def r_product (Q : (Option Nat) → XS → Prop) (o : rO) (N : Nat) (a0 : Nat) (m : Nat) (T : XS) : Prop :=
  bindP (getO T a0 5) fun q1 =>
  splP m fun m4 m5 =>
  o (fun v3 T8 =>
  r_product_b5 Q o N a0 N m5 T8 v3) a0 m4 T
theorem mt_r_product {κ : jK} (hκ : jX κ) (N : Nat) (G : Nat → Nat) {sa : Nat → Nat} (hl : jLits κ sa) {o : rO} {fo : Nat} (ho : okO κ G fo o) {m : Nat} {a0 : Nat} {T : XS} {Q : (Option Nat) → XS → Prop} (h : r_product Q o N a0 m T) : jM κ yX5_product (ws_ yX5_product cX5_product 3 (some (.object "NineKeysRound$Node"))) (fo + 6) m (64 * m) [.ref a0] (wX κ G T) (fun u w' => ∃ v T', Q v T' ∧ u = some (va_rf v) ∧ w' = wX κ G T') := by
  rw [r_product] at h
  refine jM.of (by decide) rfl (Nat.le_of_ble_eq_true rfl) fun Γ C _ => ?_
  show J κ Γ ((fo + 6), m, 64 * m, (fun u w' => ∃ v T', Q v T' ∧ u = some (va_rf v) ∧ w' = wX κ G T')) 3 (wX κ G T) 0 (64 * 0) 0 [some (.ref a0), none, none] []
  have hb : 0 + m ≤ m := by omega
  refine j_aload_n C dX5_product_0 rfl rfl ?_
  obtain ⟨q1, g2, h⟩ := obP h
  obtain ⟨m4, m5, e6, h⟩ := h
  have hb7 : 0 + m4 + m5 ≤ m := by omega
  refine jx_OQB hκ C (ho h) hG_r_operand hy_r_operand rfl g2 (by decide) rfl rfl dX5_product_1 ⟨(by first | omega | (dsimp only; omega)), by decide, (by first | omega | (dsimp only; omega)), (by first | omega | (dsimp only; omega)), (Nat.le_of_ble_eq_true rfl)⟩ rfl (fun v3 T8 h => ?_)
  refine j_astoreE_n C (e := v3) dX5_product_4 rfl (by decide) rfl ?_
  exact j_sub (wr_product_b5 hκ N C hl ho N _ _ _ h _ hb7) ⟨rfl, ⟨rfl, trivial⟩⟩
/-! sum -/
def r_sum_b5 (Q : (Option Nat) → XS → Prop) (o : rO) (N : Nat) (a0 : Nat) : Nat → Nat → XS → (Option Nat) → Prop
  | 0, _, _, _ => False
  | n + 1, m, T, l1 =>
    bindP (getO T a0 5) fun q1 =>
    (if 0 ≤ (q1.2.1 1) then
    Q l1 T
    else
    bindP (getO T a0 5) fun q3 =>
    bindP (r_one 2 T a0) fun v5 =>
    (if (b2i v5) = 0 then
    Q l1 T
    else
    bindP (getO T a0 5) fun q9 =>
    bindP (r_here T a0) fun v8 =>
    bindP (getO T a0 5) fun q11 =>
    bindP (getO T a0 5) fun q13 =>
    nmP (xO T a0 (oI q13 0 ((q11.2.1 0) + 1))) fun T15 =>
    bindP (getO T15 a0 5) fun q16 =>
    splP m fun m19 m20 =>
    r_product (fun v18 T23 =>
    bindP (getO T23 a0 5) fun q24 =>
    splP m20 fun m27 m28 =>
    r_joined (fun v26 T31 =>
    r_sum_b5 Q o N a0 n m28 T31 v26) a0 m27 T23 v8 l1 v18) o N a0 m19 T15 ))
theorem wr_sum_b5 {κ : jK} (hκ : jX κ) (N : Nat) {MM : Nat} {Γ : jG} (C : jC κ Γ cX5_sum 3 RX5 (some (.object "NineKeysRound$Node"))) {G : Nat → Nat} {sa : Nat → Nat} (hl : jLits κ sa) {o : rO} {fo : Nat} (ho : okO κ G fo o) {a0 : Nat}  {Q : (Option Nat) → XS → Prop} : ∀ (n : Nat) (m : Nat) (T : XS) (l1 : (Option Nat)), r_sum_b5 Q o N a0 n m T l1 → ∀ k : Nat, k + m ≤ MM → J κ Γ ((fo + 7), MM, 64 * MM, (fun u w' => ∃ v T', Q v T' ∧ u = some (va_rf v) ∧ w' = wX κ G T')) 3 (wX κ G T) k (64 * k) 5 [some (.ref a0), some (va_rf l1), none] [] := by
  intro n
  induction n with
  | zero => intro _ _ _ h; cases h
  | succ n ih =>
    intro m T l1 h k hb
    rw [r_sum_b5] at h
    refine j_aload_n C dX5_sum_5 rfl rfl ?_
    obtain ⟨q1, g2, h⟩ := obP h
    refine jx_gi5 hκ C g2 1 (by decide) rfl q593 dX5_sum_6 ?_
    refine j_if_ge C dX5_sum_9 (tgt := 50) (by decide) (fun c => ?_) (fun c => ?_)
    · replace h := ipP c h
      refine j_aloadE_n C (e := l1) dX5_sum_50 rfl rfl ?_
      exact j_aret C (e := l1) (Or.inl ⟨_, rfl⟩) dX5_sum_51 (by first | omega | (dsimp only; omega)) (by first | omega | (dsimp only; omega)) ⟨_, _, h, rfl, rfl⟩
    replace h := imP c h
    refine j_aload_n C dX5_sum_12 rfl rfl ?_
    refine j_ldcS C (tx := "+-") (hl.2 2 (by decide)) dX5_sum_13 ?_
    obtain ⟨q3, g4, h⟩ := obP h
    obtain ⟨v5, e6, h⟩ := obP h
    refine jx_Oi hκ C (mt_r_one hκ G hl 2 (by decide) e6) hG_r_isOne hy_r_isOne rfl g4 (by decide) rfl rfl dX5_sum_15 ⟨(by first | omega | (dsimp only; omega)), by decide, (by first | omega | (dsimp only; omega)), (by first | omega | (dsimp only; omega)), (Nat.le_of_ble_eq_true rfl)⟩ rfl ?_
    refine j_if_eq C dX5_sum_18 (tgt := 50) (by decide) (fun c => ?_) (fun c => ?_)
    · replace h := ipP c h
      refine j_aloadE_n C (e := l1) dX5_sum_50 rfl rfl ?_
      exact j_aret C (e := l1) (Or.inl ⟨_, rfl⟩) dX5_sum_51 (by first | omega | (dsimp only; omega)) (by first | omega | (dsimp only; omega)) ⟨_, _, h, rfl, rfl⟩
    replace h := imP c h
    refine j_aload_n C dX5_sum_21 rfl rfl ?_
    obtain ⟨q9, g10, h⟩ := obP h
    obtain ⟨v8, e7, h⟩ := obP h
    refine jx_Oi hκ C (mt_r_here hκ G e7) hG_r_here hy_r_here rfl g10 (by decide) rfl rfl dX5_sum_22 (jfit.of (by first | omega | (dsimp only; omega)) (by decide) (by first | omega | (dsimp only; omega)) (by first | omega | (dsimp only; omega)) (Nat.le_of_ble_eq_true rfl)) rfl ?_
    refine j_istore_n C dX5_sum_25 rfl (by decide) (jok_rf rfl) ?_
    refine j_aload_n C dX5_sum_26 rfl rfl ?_
    refine j_dup C dX5_sum_27 rfl ?_
    obtain ⟨q11, g12, h⟩ := obP h
    refine jx_gi5 hκ C g12 0 (by decide) rfl q592 dX5_sum_28 ?_
    refine j_iconst C (v := 1) dX5_sum_31 rfl ?_
    refine j_iadd C dX5_sum_32 ?_
    obtain ⟨q13, g14, h⟩ := obP h
    refine jx_pi5 hκ C g14 0 (by decide) rfl rfl rfl q592 dX5_sum_33 ?_
    refine jx_nmTP h (fun T15 h => ?_)
    refine j_aload_n C dX5_sum_36 rfl rfl ?_
    refine j_iload_n C dX5_sum_37 rfl rfl ?_
    refine j_aloadE_n C (e := l1) dX5_sum_38 rfl rfl ?_
    refine j_aload_n C dX5_sum_39 rfl rfl ?_
    obtain ⟨q16, g17, h⟩ := obP h
    obtain ⟨m19, m20, e21, h⟩ := h
    have hb22 : k + m19 + m20 ≤ MM := by omega
    refine jx_OQB hκ C (mt_r_product hκ N G hl ho h) hG_r_product hy_r_product rfl g17 (by decide) rfl rfl dX5_sum_40 ⟨(by first | omega | (dsimp only; omega)), by decide, (by first | omega | (dsimp only; omega)), (by first | omega | (dsimp only; omega)), (by cases l1 <;> exact Nat.le_of_ble_eq_true rfl)⟩ rfl (fun v18 T23 h => ?_)
    obtain ⟨q24, g25, h⟩ := obP h
    obtain ⟨m27, m28, e29, h⟩ := h
    have hb30 : (k + m19) + m27 + m28 ≤ MM := by omega
    refine jx_OQB hκ C (mt_r_joined hκ  G hl  h) hG_r_joined hy_r_joined rfl g25 (by decide) rfl rfl dX5_sum_43 ⟨(by first | omega | (dsimp only; omega)), by decide, (by first | omega | (dsimp only; omega)), (by first | omega | (dsimp only; omega)), (Nat.le_of_ble_eq_true rfl)⟩ rfl (fun v26 T31 h => ?_)
    refine j_astoreE_n C (e := v26) dX5_sum_46 rfl (by decide) rfl ?_
    refine j_goto C dX5_sum_47 (tgt := 5) (by decide) ?_
    exact j_sub (ih _ _ _ h _ hb30) ⟨rfl, ⟨rfl, trivial⟩⟩
def r_sum (Q : (Option Nat) → XS → Prop) (o : rO) (N : Nat) (a0 : Nat) (m : Nat) (T : XS) : Prop :=
  bindP (getO T a0 5) fun q1 =>
  splP m fun m4 m5 =>
  r_product (fun v3 T8 =>
  r_sum_b5 Q o N a0 N m5 T8 v3) o N a0 m4 T 
theorem mt_r_sum {κ : jK} (hκ : jX κ) (N : Nat) (G : Nat → Nat) {sa : Nat → Nat} (hl : jLits κ sa) {o : rO} {fo : Nat} (ho : okO κ G fo o) {m : Nat} {a0 : Nat} {T : XS} {Q : (Option Nat) → XS → Prop} (h : r_sum Q o N a0 m T) : jM κ yX5_sum (ws_ yX5_sum cX5_sum 3 (some (.object "NineKeysRound$Node"))) (fo + 7) m (64 * m) [.ref a0] (wX κ G T) (fun u w' => ∃ v T', Q v T' ∧ u = some (va_rf v) ∧ w' = wX κ G T') := by
  rw [r_sum] at h
  refine jM.of (by decide) rfl (Nat.le_of_ble_eq_true rfl) fun Γ C _ => ?_
  show J κ Γ ((fo + 7), m, 64 * m, (fun u w' => ∃ v T', Q v T' ∧ u = some (va_rf v) ∧ w' = wX κ G T')) 3 (wX κ G T) 0 (64 * 0) 0 [some (.ref a0), none, none] []
  have hb : 0 + m ≤ m := by omega
  refine j_aload_n C dX5_sum_0 rfl rfl ?_
  obtain ⟨q1, g2, h⟩ := obP h
  obtain ⟨m4, m5, e6, h⟩ := h
  have hb7 : 0 + m4 + m5 ≤ m := by omega
  refine jx_OQB hκ C (mt_r_product hκ N G hl ho h) hG_r_product hy_r_product rfl g2 (by decide) rfl rfl dX5_sum_1 ⟨(by first | omega | (dsimp only; omega)), by decide, (by first | omega | (dsimp only; omega)), (by first | omega | (dsimp only; omega)), (Nat.le_of_ble_eq_true rfl)⟩ rfl (fun v3 T8 h => ?_)
  refine j_astoreE_n C (e := v3) dX5_sum_4 rfl (by decide) rfl ?_
  exact j_sub (wr_sum_b5 hκ N C hl ho N _ _ _ h _ hb7) ⟨rfl, ⟨rfl, trivial⟩⟩
/-! compared -/
def r_compared (Q : (Option Nat) → XS → Prop) (o : rO) (N : Nat) (a0 : Nat) (m : Nat) (T : XS) : Prop :=
  bindP (getO T a0 5) fun q1 =>
  splP m fun m4 m5 =>
  r_sum (fun v3 T8 =>
  bindP (getO T8 a0 5) fun q9 =>
  (if 0 ≤ (q9.2.1 1) then
  Q v3 T8
  else
  bindP (getO T8 a0 5) fun q11 =>
  bindP (r_one 3 T8 a0) fun v13 =>
  (if (b2i v13) = 0 then
  Q v3 T8
  else
  bindP (getO T8 a0 5) fun q17 =>
  bindP (r_here T8 a0) fun v16 =>
  bindP (getO T8 a0 5) fun q19 =>
  bindP (getO T8 a0 5) fun q21 =>
  nmP (xO T8 a0 (oI q21 0 ((q19.2.1 0) + 1))) fun T23 =>
  bindP (getO T23 a0 5) fun q24 =>
  splP m5 fun m27 m28 =>
  r_sum (fun v26 T31 =>
  bindP (getO T31 a0 5) fun q32 =>
  splP m28 fun m35 m36 =>
  r_joined (fun v34 T39 =>
  Q v34 T39) a0 m35 T31 v16 v3 v26) o N a0 m27 T23 ))) o N a0 m4 T 
theorem mt_r_compared {κ : jK} (hκ : jX κ) (N : Nat) (G : Nat → Nat) {sa : Nat → Nat} (hl : jLits κ sa) {o : rO} {fo : Nat} (ho : okO κ G fo o) {m : Nat} {a0 : Nat} {T : XS} {Q : (Option Nat) → XS → Prop} (h : r_compared Q o N a0 m T) : jM κ yX5_compared (ws_ yX5_compared cX5_compared 3 (some (.object "NineKeysRound$Node"))) (fo + 8) m (64 * m) [.ref a0] (wX κ G T) (fun u w' => ∃ v T', Q v T' ∧ u = some (va_rf v) ∧ w' = wX κ G T') := by
  rw [r_compared] at h
  refine jM.of (by decide) rfl (Nat.le_of_ble_eq_true rfl) fun Γ C _ => ?_
  show J κ Γ ((fo + 8), m, 64 * m, (fun u w' => ∃ v T', Q v T' ∧ u = some (va_rf v) ∧ w' = wX κ G T')) 3 (wX κ G T) 0 (64 * 0) 0 [some (.ref a0), none, none] []
  have hb : 0 + m ≤ m := by omega
  refine j_aload_n C dX5_compared_0 rfl rfl ?_
  obtain ⟨q1, g2, h⟩ := obP h
  obtain ⟨m4, m5, e6, h⟩ := h
  have hb7 : 0 + m4 + m5 ≤ m := by omega
  refine jx_OQB hκ C (mt_r_sum hκ N G hl ho h) hG_r_sum hy_r_sum rfl g2 (by decide) rfl rfl dX5_compared_1 ⟨(by first | omega | (dsimp only; omega)), by decide, (by first | omega | (dsimp only; omega)), (by first | omega | (dsimp only; omega)), (Nat.le_of_ble_eq_true rfl)⟩ rfl (fun v3 T8 h => ?_)
  refine j_astoreE_n C (e := v3) dX5_compared_4 rfl (by decide) rfl ?_
  refine j_aload_n C dX5_compared_5 rfl rfl ?_
  obtain ⟨q9, g10, h⟩ := obP h
  refine jx_gi5 hκ C g10 1 (by decide) rfl q593 dX5_compared_6 ?_
  refine j_if_ge C dX5_compared_9 (tgt := 21) (by decide) (fun c => ?_) (fun c => ?_)
  · replace h := ipP c h
    refine j_aloadE_n C (e := v3) dX5_compared_21 rfl rfl ?_
    exact j_aret C (e := v3) (Or.inl ⟨_, rfl⟩) dX5_compared_22 (by first | omega | (dsimp only; omega)) (by first | omega | (dsimp only; omega)) ⟨_, _, h, rfl, rfl⟩
  replace h := imP c h
  refine j_aload_n C dX5_compared_12 rfl rfl ?_
  refine j_ldcS C (tx := "<=>") (hl.2 3 (by decide)) dX5_compared_13 ?_
  obtain ⟨q11, g12, h⟩ := obP h
  obtain ⟨v13, e14, h⟩ := obP h
  refine jx_Oi hκ C (mt_r_one hκ G hl 3 (by decide) e14) hG_r_isOne hy_r_isOne rfl g12 (by decide) rfl rfl dX5_compared_15 ⟨(by first | omega | (dsimp only; omega)), by decide, (by first | omega | (dsimp only; omega)), (by first | omega | (dsimp only; omega)), (Nat.le_of_ble_eq_true rfl)⟩ rfl ?_
  refine j_if_ne C dX5_compared_18 (tgt := 23) (by decide) (fun c => ?_) (fun c => ?_)
  · replace h := imP c h
    refine j_aload_n C dX5_compared_23 rfl rfl ?_
    obtain ⟨q17, g18, h⟩ := obP h
    obtain ⟨v16, e15, h⟩ := obP h
    refine jx_Oi hκ C (mt_r_here hκ G e15) hG_r_here hy_r_here rfl g18 (by decide) rfl rfl dX5_compared_24 (jfit.of (by first | omega | (dsimp only; omega)) (by decide) (by first | omega | (dsimp only; omega)) (by first | omega | (dsimp only; omega)) (Nat.le_of_ble_eq_true rfl)) rfl ?_
    refine j_istore_n C dX5_compared_27 rfl (by decide) (jok_rf rfl) ?_
    refine j_aload_n C dX5_compared_28 rfl rfl ?_
    refine j_dup C dX5_compared_29 rfl ?_
    obtain ⟨q19, g20, h⟩ := obP h
    refine jx_gi5 hκ C g20 0 (by decide) rfl q592 dX5_compared_30 ?_
    refine j_iconst C (v := 1) dX5_compared_33 rfl ?_
    refine j_iadd C dX5_compared_34 ?_
    obtain ⟨q21, g22, h⟩ := obP h
    refine jx_pi5 hκ C g22 0 (by decide) rfl rfl rfl q592 dX5_compared_35 ?_
    refine jx_nmTP h (fun T23 h => ?_)
    refine j_aload_n C dX5_compared_38 rfl rfl ?_
    refine j_iload_n C dX5_compared_39 rfl rfl ?_
    refine j_aloadE_n C (e := v3) dX5_compared_40 rfl rfl ?_
    refine j_aload_n C dX5_compared_41 rfl rfl ?_
    obtain ⟨q24, g25, h⟩ := obP h
    obtain ⟨m27, m28, e29, h⟩ := h
    have hb30 : (0 + m4) + m27 + m28 ≤ m := by omega
    refine jx_OQB hκ C (mt_r_sum hκ N G hl ho h) hG_r_sum hy_r_sum rfl g25 (by decide) rfl rfl dX5_compared_42 ⟨(by first | omega | (dsimp only; omega)), by decide, (by first | omega | (dsimp only; omega)), (by first | omega | (dsimp only; omega)), (by cases v3 <;> exact Nat.le_of_ble_eq_true rfl)⟩ rfl (fun v26 T31 h => ?_)
    obtain ⟨q32, g33, h⟩ := obP h
    obtain ⟨m35, m36, e37, h⟩ := h
    have hb38 : ((0 + m4) + m27) + m35 + m36 ≤ m := by omega
    refine jx_OQB hκ C (mt_r_joined hκ  G hl  h) hG_r_joined hy_r_joined rfl g33 (by decide) rfl rfl dX5_compared_45 ⟨(by first | omega | (dsimp only; omega)), by decide, (by first | omega | (dsimp only; omega)), (by first | omega | (dsimp only; omega)), (Nat.le_of_ble_eq_true rfl)⟩ rfl (fun v34 T39 h => ?_)
    exact j_aret C (e := v34) (Or.inl ⟨_, rfl⟩) dX5_compared_48 (by first | omega | (dsimp only; omega)) (by first | omega | (dsimp only; omega)) ⟨_, _, h, rfl, rfl⟩
  replace h := ipP c h
  refine j_aloadE_n C (e := v3) dX5_compared_21 rfl rfl ?_
  exact j_aret C (e := v3) (Or.inl ⟨_, rfl⟩) dX5_compared_22 (by first | omega | (dsimp only; omega)) (by first | omega | (dsimp only; omega)) ⟨_, _, h, rfl, rfl⟩
/-! all -/
def r_all_b5 (Q : (Option Nat) → XS → Prop) (o : rO) (N : Nat) (a0 : Nat) : Nat → Nat → XS → (Option Nat) → Prop
  | 0, _, _, _ => False
  | n + 1, m, T, l1 =>
    bindP (getO T a0 5) fun q1 =>
    (if 0 ≤ (q1.2.1 1) then
    Q l1 T
    else
    bindP (getO T a0 5) fun q5 =>
    bindP (r_here T a0) fun v4 =>
    (if v4 = 38 then
    bindP (getO T a0 5) fun q7 =>
    bindP (getO T a0 5) fun q9 =>
    nmP (xO T a0 (oI q9 0 ((q7.2.1 0) + 1))) fun T11 =>
    bindP (getO T11 a0 5) fun q12 =>
    splP m fun m15 m16 =>
    r_compared (fun v14 T19 =>
    bindP (getO T19 a0 5) fun q20 =>
    splP m16 fun m23 m24 =>
    r_joined (fun v22 T27 =>
    r_all_b5 Q o N a0 n m24 T27 v22) a0 m23 T19 38 l1 v14) o N a0 m15 T11 
    else
    Q l1 T))
theorem wr_all_b5 {κ : jK} (hκ : jX κ) (N : Nat) {MM : Nat} {Γ : jG} (C : jC κ Γ cX5_all 2 RX5 (some (.object "NineKeysRound$Node"))) {G : Nat → Nat} {sa : Nat → Nat} (hl : jLits κ sa) {o : rO} {fo : Nat} (ho : okO κ G fo o) {a0 : Nat}  {Q : (Option Nat) → XS → Prop} : ∀ (n : Nat) (m : Nat) (T : XS) (l1 : (Option Nat)), r_all_b5 Q o N a0 n m T l1 → ∀ k : Nat, k + m ≤ MM → J κ Γ ((fo + 9), MM, 64 * MM, (fun u w' => ∃ v T', Q v T' ∧ u = some (va_rf v) ∧ w' = wX κ G T')) 2 (wX κ G T) k (64 * k) 5 [some (.ref a0), some (va_rf l1)] [] := by
  intro n
  induction n with
  | zero => intro _ _ _ h; cases h
  | succ n ih =>
    intro m T l1 h k hb
    rw [r_all_b5] at h
    refine j_aload_n C dX5_all_5 rfl rfl ?_
    obtain ⟨q1, g2, h⟩ := obP h
    refine jx_gi5 hκ C g2 1 (by decide) rfl q593 dX5_all_6 ?_
    refine j_if_ge C dX5_all_9 (tgt := 46) (by decide) (fun c => ?_) (fun c => ?_)
    · replace h := ipP c h
      refine j_aloadE_n C (e := l1) dX5_all_46 rfl rfl ?_
      exact j_aret C (e := l1) (Or.inl ⟨_, rfl⟩) dX5_all_47 (by first | omega | (dsimp only; omega)) (by first | omega | (dsimp only; omega)) ⟨_, _, h, rfl, rfl⟩
    replace h := imP c h
    refine j_aload_n C dX5_all_12 rfl rfl ?_
    obtain ⟨q5, g6, h⟩ := obP h
    obtain ⟨v4, e3, h⟩ := obP h
    refine jx_Oi hκ C (mt_r_here hκ G e3) hG_r_here hy_r_here rfl g6 (by decide) rfl rfl dX5_all_13 (jfit.of (by first | omega | (dsimp only; omega)) (by decide) (by first | omega | (dsimp only; omega)) (by first | omega | (dsimp only; omega)) (Nat.le_of_ble_eq_true rfl)) rfl ?_
    refine j_bipush C (v := 38) dX5_all_16 rfl ?_
    refine j_icmp_ne C dX5_all_18 (tgt := 46) (by decide) (fun c => ?_) (fun c => ?_)
    · replace h := imP c h
      refine j_aloadE_n C (e := l1) dX5_all_46 rfl rfl ?_
      exact j_aret C (e := l1) (Or.inl ⟨_, rfl⟩) dX5_all_47 (by first | omega | (dsimp only; omega)) (by first | omega | (dsimp only; omega)) ⟨_, _, h, rfl, rfl⟩
    replace h := ipP c h
    refine j_aload_n C dX5_all_21 rfl rfl ?_
    refine j_dup C dX5_all_22 rfl ?_
    obtain ⟨q7, g8, h⟩ := obP h
    refine jx_gi5 hκ C g8 0 (by decide) rfl q592 dX5_all_23 ?_
    refine j_iconst C (v := 1) dX5_all_26 rfl ?_
    refine j_iadd C dX5_all_27 ?_
    obtain ⟨q9, g10, h⟩ := obP h
    refine jx_pi5 hκ C g10 0 (by decide) rfl rfl rfl q592 dX5_all_28 ?_
    refine jx_nmTP h (fun T11 h => ?_)
    refine j_aload_n C dX5_all_31 rfl rfl ?_
    refine j_bipush C (v := 38) dX5_all_32 rfl ?_
    refine j_aloadE_n C (e := l1) dX5_all_34 rfl rfl ?_
    refine j_aload_n C dX5_all_35 rfl rfl ?_
    obtain ⟨q12, g13, h⟩ := obP h
    obtain ⟨m15, m16, e17, h⟩ := h
    have hb18 : k + m15 + m16 ≤ MM := by omega
    refine jx_OQB hκ C (mt_r_compared hκ N G hl ho h) hG_r_compared hy_r_compared rfl g13 (by decide) rfl rfl dX5_all_36 ⟨(by first | omega | (dsimp only; omega)), by decide, (by first | omega | (dsimp only; omega)), (by first | omega | (dsimp only; omega)), (by cases l1 <;> exact Nat.le_of_ble_eq_true rfl)⟩ rfl (fun v14 T19 h => ?_)
    obtain ⟨q20, g21, h⟩ := obP h
    obtain ⟨m23, m24, e25, h⟩ := h
    have hb26 : (k + m15) + m23 + m24 ≤ MM := by omega
    refine jx_OQB hκ C (mt_r_joined hκ  G hl  h) hG_r_joined hy_r_joined rfl g21 (by decide) rfl rfl dX5_all_39 ⟨(by first | omega | (dsimp only; omega)), by decide, (by first | omega | (dsimp only; omega)), (by first | omega | (dsimp only; omega)), (Nat.le_of_ble_eq_true rfl)⟩ rfl (fun v22 T27 h => ?_)
    refine j_astoreE_n C (e := v22) dX5_all_42 rfl (by decide) rfl ?_
    refine j_goto C dX5_all_43 (tgt := 5) (by decide) ?_
    exact j_sub (ih _ _ _ h _ hb26) ⟨rfl, ⟨rfl, trivial⟩⟩
def r_all (Q : (Option Nat) → XS → Prop) (o : rO) (N : Nat) (a0 : Nat) (m : Nat) (T : XS) : Prop :=
  bindP (getO T a0 5) fun q1 =>
  splP m fun m4 m5 =>
  r_compared (fun v3 T8 =>
  r_all_b5 Q o N a0 N m5 T8 v3) o N a0 m4 T 
theorem mt_r_all {κ : jK} (hκ : jX κ) (N : Nat) (G : Nat → Nat) {sa : Nat → Nat} (hl : jLits κ sa) {o : rO} {fo : Nat} (ho : okO κ G fo o) {m : Nat} {a0 : Nat} {T : XS} {Q : (Option Nat) → XS → Prop} (h : r_all Q o N a0 m T) : jM κ yX5_all (ws_ yX5_all cX5_all 2 (some (.object "NineKeysRound$Node"))) (fo + 9) m (64 * m) [.ref a0] (wX κ G T) (fun u w' => ∃ v T', Q v T' ∧ u = some (va_rf v) ∧ w' = wX κ G T') := by
  rw [r_all] at h
  refine jM.of (by decide) rfl (Nat.le_of_ble_eq_true rfl) fun Γ C _ => ?_
  show J κ Γ ((fo + 9), m, 64 * m, (fun u w' => ∃ v T', Q v T' ∧ u = some (va_rf v) ∧ w' = wX κ G T')) 2 (wX κ G T) 0 (64 * 0) 0 [some (.ref a0), none] []
  have hb : 0 + m ≤ m := by omega
  refine j_aload_n C dX5_all_0 rfl rfl ?_
  obtain ⟨q1, g2, h⟩ := obP h
  obtain ⟨m4, m5, e6, h⟩ := h
  have hb7 : 0 + m4 + m5 ≤ m := by omega
  refine jx_OQB hκ C (mt_r_compared hκ N G hl ho h) hG_r_compared hy_r_compared rfl g2 (by decide) rfl rfl dX5_all_1 ⟨(by first | omega | (dsimp only; omega)), by decide, (by first | omega | (dsimp only; omega)), (by first | omega | (dsimp only; omega)), (Nat.le_of_ble_eq_true rfl)⟩ rfl (fun v3 T8 h => ?_)
  refine j_astoreE_n C (e := v3) dX5_all_4 rfl (by decide) rfl ?_
  exact j_sub (wr_all_b5 hκ N C hl ho N _ _ _ h _ hb7) ⟨rfl, ⟨rfl, trivial⟩⟩
/-! either -/
def r_either_b5 (Q : (Option Nat) → XS → Prop) (o : rO) (N : Nat) (a0 : Nat) : Nat → Nat → XS → (Option Nat) → Prop
  | 0, _, _, _ => False
  | n + 1, m, T, l1 =>
    bindP (getO T a0 5) fun q1 =>
    (if 0 ≤ (q1.2.1 1) then
    Q l1 T
    else
    bindP (getO T a0 5) fun q5 =>
    bindP (r_here T a0) fun v4 =>
    (if v4 = 124 then
    bindP (getO T a0 5) fun q7 =>
    bindP (getO T a0 5) fun q9 =>
    nmP (xO T a0 (oI q9 0 ((q7.2.1 0) + 1))) fun T11 =>
    bindP (getO T11 a0 5) fun q12 =>
    splP m fun m15 m16 =>
    r_all (fun v14 T19 =>
    bindP (getO T19 a0 5) fun q20 =>
    splP m16 fun m23 m24 =>
    r_joined (fun v22 T27 =>
    r_either_b5 Q o N a0 n m24 T27 v22) a0 m23 T19 124 l1 v14) o N a0 m15 T11 
    else
    Q l1 T))
theorem wr_either_b5 {κ : jK} (hκ : jX κ) (N : Nat) {MM : Nat} {Γ : jG} (C : jC κ Γ cX5_either 2 RX5 (some (.object "NineKeysRound$Node"))) {G : Nat → Nat} {sa : Nat → Nat} (hl : jLits κ sa) {o : rO} {fo : Nat} (ho : okO κ G fo o) {a0 : Nat}  {Q : (Option Nat) → XS → Prop} : ∀ (n : Nat) (m : Nat) (T : XS) (l1 : (Option Nat)), r_either_b5 Q o N a0 n m T l1 → ∀ k : Nat, k + m ≤ MM → J κ Γ ((fo + 10), MM, 64 * MM, (fun u w' => ∃ v T', Q v T' ∧ u = some (va_rf v) ∧ w' = wX κ G T')) 2 (wX κ G T) k (64 * k) 5 [some (.ref a0), some (va_rf l1)] [] := by
  intro n
  induction n with
  | zero => intro _ _ _ h; cases h
  | succ n ih =>
    intro m T l1 h k hb
    rw [r_either_b5] at h
    refine j_aload_n C dX5_either_5 rfl rfl ?_
    obtain ⟨q1, g2, h⟩ := obP h
    refine jx_gi5 hκ C g2 1 (by decide) rfl q593 dX5_either_6 ?_
    refine j_if_ge C dX5_either_9 (tgt := 46) (by decide) (fun c => ?_) (fun c => ?_)
    · replace h := ipP c h
      refine j_aloadE_n C (e := l1) dX5_either_46 rfl rfl ?_
      exact j_aret C (e := l1) (Or.inl ⟨_, rfl⟩) dX5_either_47 (by first | omega | (dsimp only; omega)) (by first | omega | (dsimp only; omega)) ⟨_, _, h, rfl, rfl⟩
    replace h := imP c h
    refine j_aload_n C dX5_either_12 rfl rfl ?_
    obtain ⟨q5, g6, h⟩ := obP h
    obtain ⟨v4, e3, h⟩ := obP h
    refine jx_Oi hκ C (mt_r_here hκ G e3) hG_r_here hy_r_here rfl g6 (by decide) rfl rfl dX5_either_13 (jfit.of (by first | omega | (dsimp only; omega)) (by decide) (by first | omega | (dsimp only; omega)) (by first | omega | (dsimp only; omega)) (Nat.le_of_ble_eq_true rfl)) rfl ?_
    refine j_bipush C (v := 124) dX5_either_16 rfl ?_
    refine j_icmp_ne C dX5_either_18 (tgt := 46) (by decide) (fun c => ?_) (fun c => ?_)
    · replace h := imP c h
      refine j_aloadE_n C (e := l1) dX5_either_46 rfl rfl ?_
      exact j_aret C (e := l1) (Or.inl ⟨_, rfl⟩) dX5_either_47 (by first | omega | (dsimp only; omega)) (by first | omega | (dsimp only; omega)) ⟨_, _, h, rfl, rfl⟩
    replace h := ipP c h
    refine j_aload_n C dX5_either_21 rfl rfl ?_
    refine j_dup C dX5_either_22 rfl ?_
    obtain ⟨q7, g8, h⟩ := obP h
    refine jx_gi5 hκ C g8 0 (by decide) rfl q592 dX5_either_23 ?_
    refine j_iconst C (v := 1) dX5_either_26 rfl ?_
    refine j_iadd C dX5_either_27 ?_
    obtain ⟨q9, g10, h⟩ := obP h
    refine jx_pi5 hκ C g10 0 (by decide) rfl rfl rfl q592 dX5_either_28 ?_
    refine jx_nmTP h (fun T11 h => ?_)
    refine j_aload_n C dX5_either_31 rfl rfl ?_
    refine j_bipush C (v := 124) dX5_either_32 rfl ?_
    refine j_aloadE_n C (e := l1) dX5_either_34 rfl rfl ?_
    refine j_aload_n C dX5_either_35 rfl rfl ?_
    obtain ⟨q12, g13, h⟩ := obP h
    obtain ⟨m15, m16, e17, h⟩ := h
    have hb18 : k + m15 + m16 ≤ MM := by omega
    refine jx_OQB hκ C (mt_r_all hκ N G hl ho h) hG_r_all hy_r_all rfl g13 (by decide) rfl rfl dX5_either_36 ⟨(by first | omega | (dsimp only; omega)), by decide, (by first | omega | (dsimp only; omega)), (by first | omega | (dsimp only; omega)), (by cases l1 <;> exact Nat.le_of_ble_eq_true rfl)⟩ rfl (fun v14 T19 h => ?_)
    obtain ⟨q20, g21, h⟩ := obP h
    obtain ⟨m23, m24, e25, h⟩ := h
    have hb26 : (k + m15) + m23 + m24 ≤ MM := by omega
    refine jx_OQB hκ C (mt_r_joined hκ  G hl  h) hG_r_joined hy_r_joined rfl g21 (by decide) rfl rfl dX5_either_39 ⟨(by first | omega | (dsimp only; omega)), by decide, (by first | omega | (dsimp only; omega)), (by first | omega | (dsimp only; omega)), (Nat.le_of_ble_eq_true rfl)⟩ rfl (fun v22 T27 h => ?_)
    refine j_astoreE_n C (e := v22) dX5_either_42 rfl (by decide) rfl ?_
    refine j_goto C dX5_either_43 (tgt := 5) (by decide) ?_
    exact j_sub (ih _ _ _ h _ hb26) ⟨rfl, ⟨rfl, trivial⟩⟩
def r_either (Q : (Option Nat) → XS → Prop) (o : rO) (N : Nat) (a0 : Nat) (m : Nat) (T : XS) : Prop :=
  bindP (getO T a0 5) fun q1 =>
  splP m fun m4 m5 =>
  r_all (fun v3 T8 =>
  r_either_b5 Q o N a0 N m5 T8 v3) o N a0 m4 T 
theorem mt_r_either {κ : jK} (hκ : jX κ) (N : Nat) (G : Nat → Nat) {sa : Nat → Nat} (hl : jLits κ sa) {o : rO} {fo : Nat} (ho : okO κ G fo o) {m : Nat} {a0 : Nat} {T : XS} {Q : (Option Nat) → XS → Prop} (h : r_either Q o N a0 m T) : jM κ yX5_either (ws_ yX5_either cX5_either 2 (some (.object "NineKeysRound$Node"))) (fo + 10) m (64 * m) [.ref a0] (wX κ G T) (fun u w' => ∃ v T', Q v T' ∧ u = some (va_rf v) ∧ w' = wX κ G T') := by
  rw [r_either] at h
  refine jM.of (by decide) rfl (Nat.le_of_ble_eq_true rfl) fun Γ C _ => ?_
  show J κ Γ ((fo + 10), m, 64 * m, (fun u w' => ∃ v T', Q v T' ∧ u = some (va_rf v) ∧ w' = wX κ G T')) 2 (wX κ G T) 0 (64 * 0) 0 [some (.ref a0), none] []
  have hb : 0 + m ≤ m := by omega
  refine j_aload_n C dX5_either_0 rfl rfl ?_
  obtain ⟨q1, g2, h⟩ := obP h
  obtain ⟨m4, m5, e6, h⟩ := h
  have hb7 : 0 + m4 + m5 ≤ m := by omega
  refine jx_OQB hκ C (mt_r_all hκ N G hl ho h) hG_r_all hy_r_all rfl g2 (by decide) rfl rfl dX5_either_1 ⟨(by first | omega | (dsimp only; omega)), by decide, (by first | omega | (dsimp only; omega)), (by first | omega | (dsimp only; omega)), (Nat.le_of_ble_eq_true rfl)⟩ rfl (fun v3 T8 h => ?_)
  refine j_astoreE_n C (e := v3) dX5_either_4 rfl (by decide) rfl ?_
  exact j_sub (wr_either_b5 hκ N C hl ho N _ _ _ h _ hb7) ⟨rfl, ⟨rfl, trivial⟩⟩
/-! operand -/
def r_operand_b45 (Q : (Option Nat) → XS → Prop) (o : rO) (N : Nat) (a0 : Nat) (l1 : Int32) (m : Nat) (T : XS) : Prop :=
  bindP (getO T a0 5) fun q4 =>
  b2P (r_opens T a0) fun v2 T3 =>
  (if (b2i v2) = 0 then
  bindP (getO T3 a0 5) fun q31 =>
  splP m fun m34 m35 =>
  r_wrong (fun v33 T38 =>
  Q v33 T38) a0 m34 T3 
  else
  bindP (getO T3 a0 5) fun q6 =>
  splP m fun m9 m10 =>
  o (fun v8 T13 =>
  bindP (getO T13 a0 5) fun q14 =>
  bindP (getO T13 a0 5) fun q16 =>
  nmP (xO T13 a0 (oI q16 2 ((q14.2.1 2) - 1))) fun T18 =>
  bindP (getO T18 a0 5) fun q19 =>
  (if (q19.2.1 1) < 0 then
  (if l1 = 33 then
  budP m10 1 fun m26 =>
  newP T18 fun q29 =>
  nmP (xO T18 q29 (mkO 9 [] [v8])) fun T30 =>
  Q (some q29) T30
  else
  budP m10 1 fun m21 =>
  newP T18 fun q24 =>
  nmP (xO T18 q24 (mkO 10 [] [v8])) fun T25 =>
  Q (some q24) T25)
  else
  Q none T18)) a0 m9 T3)
theorem wr_operand_b45 {κ : jK} (hκ : jX κ) (N : Nat) {MM : Nat} {Γ : jG} (C : jC κ Γ cX5_operand 4 RX5 (some (.object "NineKeysRound$Node"))) {G : Nat → Nat} {sa : Nat → Nat} (hl : jLits κ sa) {o : rO} {fo : Nat} (ho : okO κ G fo o) {a0 : Nat} (l1 : Int32) {Q : (Option Nat) → XS → Prop} : ∀ (m : Nat) (T : XS), r_operand_b45 Q o N a0 l1 m T → ∀ k : Nat, k + m ≤ MM → J κ Γ ((fo + 11), MM, 64 * MM, (fun u w' => ∃ v T', Q v T' ∧ u = some (va_rf v) ∧ w' = wX κ G T')) 4 (wX κ G T) k (64 * k) 45 [some (.ref a0), some (.int l1), none, none] [] := by
  intro m T h k hb
  rw [r_operand_b45] at h
  refine j_aload_n C dX5_operand_45 rfl rfl ?_
  obtain ⟨q4, g5, h⟩ := obP h
  obtain ⟨v2, T3, e1, h⟩ := ob2P h
  refine jx_Oi hκ C (mt_r_opens hκ G e1) hG_r_opens hy_r_opens rfl g5 (by decide) rfl rfl dX5_operand_46 (jfit.of (by first | omega | (dsimp only; omega)) (by decide) (by first | omega | (dsimp only; omega)) (by first | omega | (dsimp only; omega)) (Nat.le_of_ble_eq_true rfl)) rfl ?_
  refine j_if_ne C dX5_operand_49 (tgt := 57) (by decide) (fun c => ?_) (fun c => ?_)
  · replace h := imP c h
    refine j_aload_n C dX5_operand_57 rfl rfl ?_
    obtain ⟨q6, g7, h⟩ := obP h
    obtain ⟨m9, m10, e11, h⟩ := h
    have hb12 : k + m9 + m10 ≤ MM := by omega
    refine jx_OQB hκ C (ho h) hG_r_operand hy_r_operand rfl g7 (by decide) rfl rfl dX5_operand_58 ⟨(by first | omega | (dsimp only; omega)), by decide, (by first | omega | (dsimp only; omega)), (by first | omega | (dsimp only; omega)), (Nat.le_of_ble_eq_true rfl)⟩ rfl (fun v8 T13 h => ?_)
    refine j_astoreE_n C (e := v8) dX5_operand_61 rfl (by decide) rfl ?_
    refine j_aload_n C dX5_operand_62 rfl rfl ?_
    refine j_dup C dX5_operand_63 rfl ?_
    obtain ⟨q14, g15, h⟩ := obP h
    refine jx_gi5 hκ C g15 2 (by decide) rfl q595 dX5_operand_64 ?_
    refine j_iconst C (v := 1) dX5_operand_67 rfl ?_
    refine j_isub C dX5_operand_68 ?_
    obtain ⟨q16, g17, h⟩ := obP h
    refine jx_pi5 hκ C g17 2 (by decide) rfl rfl rfl q595 dX5_operand_69 ?_
    refine jx_nmTP h (fun T18 h => ?_)
    refine j_aload_n C dX5_operand_72 rfl rfl ?_
    obtain ⟨q19, g20, h⟩ := obP h
    refine jx_gi5 hκ C g20 1 (by decide) rfl q593 dX5_operand_73 ?_
    refine j_if_lt C dX5_operand_76 (tgt := 81) (by decide) (fun c => ?_) (fun c => ?_)
    · replace h := ipP c h
      refine j_iload_n C dX5_operand_81 rfl rfl ?_
      refine j_bipush C (v := 33) dX5_operand_82 rfl ?_
      refine j_icmp_ne C dX5_operand_84 (tgt := 98) (by decide) (fun c => ?_) (fun c => ?_)
      · replace h := imP c h
        obtain ⟨m21, e22, h⟩ := h
        have hb23 : (k + m9) + 1 + m21 ≤ MM := by omega
        refine jx_newB hκ C 10 in_X10 tyX10 tyX10_ok q783 q784 q136 rfl (by intro j hj; rcases j with _ | _ | _ | _ | _ | j <;> first | rfl | omega) (by decide) (by first | omega | (dsimp only; omega)) (by first | omega | (dsimp only; omega)) dX5_operand_98 h (fun q24 h => ?_)
        refine j_dup C dX5_operand_101 rfl ?_
        refine j_aloadE_n C (e := v8) dX5_operand_102 rfl rfl ?_
        refine jx_I hκ C (mt_n10 hκ G _ _ v8) q787 q136 q785 q786 rfl (N := 1) ⟨by decide, by decide, by decide +kernel⟩ rfl dX5_operand_103 ⟨Nat.le_of_ble_eq_true rfl, by decide, (by first | omega | (dsimp only; omega)), (by first | omega | (dsimp only; omega)), Nat.le_of_ble_eq_true rfl⟩ rfl ?_
        refine jx_nmTP h (fun T25 h => ?_)
        exact j_aret C (e := (some q24)) (Or.inl ⟨_, rfl⟩) dX5_operand_106 (by first | omega | (dsimp only; omega)) (by first | omega | (dsimp only; omega)) ⟨_, _, h, rfl, rfl⟩
      replace h := ipP c h
      obtain ⟨m26, e27, h⟩ := h
      have hb28 : (k + m9) + 1 + m26 ≤ MM := by omega
      refine jx_newB hκ C 9 in_X9 tyX9 tyX9_ok q773 q774 q135 rfl (by intro j hj; rcases j with _ | _ | _ | _ | _ | j <;> first | rfl | omega) (by decide) (by first | omega | (dsimp only; omega)) (by first | omega | (dsimp only; omega)) dX5_operand_87 h (fun q29 h => ?_)
      refine j_dup C dX5_operand_90 rfl ?_
      refine j_aloadE_n C (e := v8) dX5_operand_91 rfl rfl ?_
      refine jx_I hκ C (mt_n9 hκ G _ _ v8) q777 q135 q775 q776 rfl (N := 1) ⟨by decide, by decide, by decide +kernel⟩ rfl dX5_operand_92 ⟨Nat.le_of_ble_eq_true rfl, by decide, (by first | omega | (dsimp only; omega)), (by first | omega | (dsimp only; omega)), Nat.le_of_ble_eq_true rfl⟩ rfl ?_
      refine jx_nmTP h (fun T30 h => ?_)
      refine j_goto C dX5_operand_95 (tgt := 106) (by decide) ?_
      exact j_aret C (e := (some q29)) (Or.inl ⟨_, rfl⟩) dX5_operand_106 (by first | omega | (dsimp only; omega)) (by first | omega | (dsimp only; omega)) ⟨_, _, h, rfl, rfl⟩
    replace h := imP c h
    refine j_null C dX5_operand_79 ?_
    exact j_aret C (e := none) (Or.inl ⟨_, rfl⟩) dX5_operand_80 (by first | omega | (dsimp only; omega)) (by first | omega | (dsimp only; omega)) ⟨_, _, h, rfl, rfl⟩
  replace h := ipP c h
  refine j_aload_n C dX5_operand_52 rfl rfl ?_
  obtain ⟨q31, g32, h⟩ := obP h
  obtain ⟨m34, m35, e36, h⟩ := h
  have hb37 : k + m34 + m35 ≤ MM := by omega
  refine jx_OQB hκ C (mt_r_wrong hκ  G hl  h) hG_r_wrong hy_r_wrong rfl g32 (by decide) rfl rfl dX5_operand_53 ⟨(by first | omega | (dsimp only; omega)), by decide, (by first | omega | (dsimp only; omega)), (by first | omega | (dsimp only; omega)), (Nat.le_of_ble_eq_true rfl)⟩ rfl (fun v33 T38 h => ?_)
  exact j_aret C (e := v33) (Or.inl ⟨_, rfl⟩) dX5_operand_56 (by first | omega | (dsimp only; omega)) (by first | omega | (dsimp only; omega)) ⟨_, _, h, rfl, rfl⟩
def r_operand_b227 (Q : (Option Nat) → XS → Prop) (o : rO) (N : Nat) (a0 : Nat) (l2 : Int32) (l3 : Int32) (m : Nat) (T : XS) : Prop :=
  (if l2 = 0 then
  bindP (getO T a0 5) fun q1 =>
  splP m fun m4 m5 =>
  r_wrong (fun v3 T8 =>
  Q v3 T8) a0 m4 T 
  else
  bindP (getO T a0 5) fun q11 =>
  bindP (r_here T a0) fun v10 =>
  bindP (x_in v10 48 57) fun v13 =>
  (if (b2i v13) = 0 then
  budP m 1 fun m15 =>
  newP T fun q18 =>
  nmP (xO T q18 (mkO 11 [l3] [])) fun T19 =>
  Q (some q18) T19
  else
  bindP (getO T a0 5) fun q20 =>
  splP m fun m23 m24 =>
  r_wrong (fun v22 T27 =>
  Q v22 T27) a0 m23 T ))
theorem wr_operand_b227 {κ : jK} (hκ : jX κ) (N : Nat) {MM : Nat} {Γ : jG} (C : jC κ Γ cX5_operand 4 RX5 (some (.object "NineKeysRound$Node"))) {G : Nat → Nat} {sa : Nat → Nat} (hl : jLits κ sa) {o : rO} {fo : Nat} (ho : okO κ G fo o) {a0 : Nat} (l2 : Int32) (l3 : Int32) {Q : (Option Nat) → XS → Prop} : ∀ (m : Nat) (T : XS), r_operand_b227 Q o N a0 l2 l3 m T → ∀ k : Nat, k + m ≤ MM → J κ Γ ((fo + 11), MM, 64 * MM, (fun u w' => ∃ v T', Q v T' ∧ u = some (va_rf v) ∧ w' = wX κ G T')) 4 (wX κ G T) k (64 * k) 227 [some (.ref a0), none, some (.int l2), some (.int l3)] [] := by
  intro m T h k hb
  rw [r_operand_b227] at h
  refine j_iload_n C dX5_operand_227 rfl rfl ?_
  refine j_if_eq C dX5_operand_228 (tgt := 245) (by decide) (fun c => ?_) (fun c => ?_)
  · replace h := ipP c h
    refine j_aload_n C dX5_operand_245 rfl rfl ?_
    obtain ⟨q1, g2, h⟩ := obP h
    obtain ⟨m4, m5, e6, h⟩ := h
    have hb7 : k + m4 + m5 ≤ MM := by omega
    refine jx_OQB hκ C (mt_r_wrong hκ  G hl  h) hG_r_wrong hy_r_wrong rfl g2 (by decide) rfl rfl dX5_operand_246 ⟨(by first | omega | (dsimp only; omega)), by decide, (by first | omega | (dsimp only; omega)), (by first | omega | (dsimp only; omega)), (Nat.le_of_ble_eq_true rfl)⟩ rfl (fun v3 T8 h => ?_)
    refine j_goto C dX5_operand_249 (tgt := 260) (by decide) ?_
    exact j_aret C (e := v3) (Or.inl ⟨_, rfl⟩) dX5_operand_260 (by first | omega | (dsimp only; omega)) (by first | omega | (dsimp only; omega)) ⟨_, _, h, rfl, rfl⟩
  replace h := imP c h
  refine j_aload_n C dX5_operand_231 rfl rfl ?_
  obtain ⟨q11, g12, h⟩ := obP h
  obtain ⟨v10, e9, h⟩ := obP h
  refine jx_Oi hκ C (mt_r_here hκ G e9) hG_r_here hy_r_here rfl g12 (by decide) rfl rfl dX5_operand_232 (jfit.of (by first | omega | (dsimp only; omega)) (by decide) (by first | omega | (dsimp only; omega)) (by first | omega | (dsimp only; omega)) (Nat.le_of_ble_eq_true rfl)) rfl ?_
  refine j_bipush C (v := 48) dX5_operand_235 rfl ?_
  refine j_bipush C (v := 57) dX5_operand_237 rfl ?_
  obtain ⟨v13, e14, h⟩ := obP h
  refine jx_inN hκ C e14 q793 dX5_operand_239 ⟨(by first | omega | (dsimp only; omega)), by decide, (by first | omega | (dsimp only; omega)), (by first | omega | (dsimp only; omega)), (Nat.le_of_ble_eq_true rfl)⟩ ?_
  refine j_if_eq C dX5_operand_242 (tgt := 252) (by decide) (fun c => ?_) (fun c => ?_)
  · replace h := ipP c h
    obtain ⟨m15, e16, h⟩ := h
    have hb17 : k + 1 + m15 ≤ MM := by omega
    refine jx_newB hκ C 11 in_X11 tyX11 tyX11_ok q794 q795 q137 rfl (by intro j hj; rcases j with _ | _ | _ | _ | _ | j <;> first | rfl | omega) (by decide) (by first | omega | (dsimp only; omega)) (by first | omega | (dsimp only; omega)) dX5_operand_252 h (fun q18 h => ?_)
    refine j_dup C dX5_operand_255 rfl ?_
    refine j_iload_n C dX5_operand_256 rfl rfl ?_
    refine jx_I hκ C (mt_n11 hκ G _ _ l3) q798 q137 q796 q797 rfl (N := 1) ⟨by decide, by decide, by decide +kernel⟩ rfl dX5_operand_257 ⟨Nat.le_of_ble_eq_true rfl, by decide, (by first | omega | (dsimp only; omega)), (by first | omega | (dsimp only; omega)), Nat.le_of_ble_eq_true rfl⟩ rfl ?_
    refine jx_nmTP h (fun T19 h => ?_)
    exact j_aret C (e := (some q18)) (Or.inl ⟨_, rfl⟩) dX5_operand_260 (by first | omega | (dsimp only; omega)) (by first | omega | (dsimp only; omega)) ⟨_, _, h, rfl, rfl⟩
  replace h := imP c h
  refine j_aload_n C dX5_operand_245 rfl rfl ?_
  obtain ⟨q20, g21, h⟩ := obP h
  obtain ⟨m23, m24, e25, h⟩ := h
  have hb26 : k + m23 + m24 ≤ MM := by omega
  refine jx_OQB hκ C (mt_r_wrong hκ  G hl  h) hG_r_wrong hy_r_wrong rfl g21 (by decide) rfl rfl dX5_operand_246 ⟨(by first | omega | (dsimp only; omega)), by decide, (by first | omega | (dsimp only; omega)), (by first | omega | (dsimp only; omega)), (Nat.le_of_ble_eq_true rfl)⟩ rfl (fun v22 T27 h => ?_)
  refine j_goto C dX5_operand_249 (tgt := 260) (by decide) ?_
  exact j_aret C (e := v22) (Or.inl ⟨_, rfl⟩) dX5_operand_260 (by first | omega | (dsimp only; omega)) (by first | omega | (dsimp only; omega)) ⟨_, _, h, rfl, rfl⟩
def r_operand_b179 (Q : (Option Nat) → XS → Prop) (o : rO) (N : Nat) (a0 : Nat) : Nat → Nat → XS → Int32 → Int32 → Prop
  | 0, _, _, _, _ => False
  | n + 1, m, T, l2, l3 =>
    (if 4 ≤ l2 then
    r_operand_b227 Q o N a0 l2 l3 m T
    else
    bindP (getO T a0 5) fun q3 =>
    bindP (r_here T a0) fun v2 =>
    bindP (x_in v2 48 57) fun v5 =>
    (if (b2i v5) = 0 then
    r_operand_b227 Q o N a0 l2 l3 m T
    else
    bindP (getO T a0 5) fun q9 =>
    bindP (r_here T a0) fun v8 =>
    nmP (((10 * l3) + v8) - 48) fun x11 =>
    nmP (l2 + 1) fun x12 =>
    bindP (getO T a0 5) fun q13 =>
    bindP (getO T a0 5) fun q15 =>
    nmP (xO T a0 (oI q15 0 ((q13.2.1 0) + 1))) fun T17 =>
    r_operand_b179 Q o N a0 n m T17 x12 x11))
theorem wr_operand_b179 {κ : jK} (hκ : jX κ) (N : Nat) {MM : Nat} {Γ : jG} (C : jC κ Γ cX5_operand 4 RX5 (some (.object "NineKeysRound$Node"))) {G : Nat → Nat} {sa : Nat → Nat} (hl : jLits κ sa) {o : rO} {fo : Nat} (ho : okO κ G fo o) {a0 : Nat}  {Q : (Option Nat) → XS → Prop} : ∀ (n : Nat) (m : Nat) (T : XS) (l2 : Int32) (l3 : Int32), r_operand_b179 Q o N a0 n m T l2 l3 → ∀ k : Nat, k + m ≤ MM → J κ Γ ((fo + 11), MM, 64 * MM, (fun u w' => ∃ v T', Q v T' ∧ u = some (va_rf v) ∧ w' = wX κ G T')) 4 (wX κ G T) k (64 * k) 179 [some (.ref a0), none, some (.int l2), some (.int l3)] [] := by
  intro n
  induction n with
  | zero => intro _ _ _ _ h; cases h
  | succ n ih =>
    intro m T l2 l3 h k hb
    rw [r_operand_b179] at h
    refine j_iload_n C dX5_operand_179 rfl rfl ?_
    refine j_iconst C (v := 4) dX5_operand_180 rfl ?_
    refine j_icmp_ge C dX5_operand_181 (tgt := 227) (by decide) (fun c => ?_) (fun c => ?_)
    · replace h := ipP c h
      exact j_sub (wr_operand_b227 hκ N C hl ho _ _ _ _ h _ hb) ⟨rfl, ⟨rfl, ⟨rfl, trivial⟩⟩⟩
    replace h := imP c h
    refine j_aload_n C dX5_operand_184 rfl rfl ?_
    obtain ⟨q3, g4, h⟩ := obP h
    obtain ⟨v2, e1, h⟩ := obP h
    refine jx_Oi hκ C (mt_r_here hκ G e1) hG_r_here hy_r_here rfl g4 (by decide) rfl rfl dX5_operand_185 (jfit.of (by first | omega | (dsimp only; omega)) (by decide) (by first | omega | (dsimp only; omega)) (by first | omega | (dsimp only; omega)) (Nat.le_of_ble_eq_true rfl)) rfl ?_
    refine j_bipush C (v := 48) dX5_operand_188 rfl ?_
    refine j_bipush C (v := 57) dX5_operand_190 rfl ?_
    obtain ⟨v5, e6, h⟩ := obP h
    refine jx_inN hκ C e6 q793 dX5_operand_192 ⟨(by first | omega | (dsimp only; omega)), by decide, (by first | omega | (dsimp only; omega)), (by first | omega | (dsimp only; omega)), (Nat.le_of_ble_eq_true rfl)⟩ ?_
    refine j_if_eq C dX5_operand_195 (tgt := 227) (by decide) (fun c => ?_) (fun c => ?_)
    · replace h := ipP c h
      exact j_sub (wr_operand_b227 hκ N C hl ho _ _ _ _ h _ hb) ⟨rfl, ⟨rfl, ⟨rfl, trivial⟩⟩⟩
    replace h := imP c h
    refine j_bipush C (v := 10) dX5_operand_198 rfl ?_
    refine j_iload_n C dX5_operand_200 rfl rfl ?_
    refine j_imul C dX5_operand_201 ?_
    refine j_aload_n C dX5_operand_202 rfl rfl ?_
    obtain ⟨q9, g10, h⟩ := obP h
    obtain ⟨v8, e7, h⟩ := obP h
    refine jx_Oi hκ C (mt_r_here hκ G e7) hG_r_here hy_r_here rfl g10 (by decide) rfl rfl dX5_operand_203 (jfit.of (by first | omega | (dsimp only; omega)) (by decide) (by first | omega | (dsimp only; omega)) (by first | omega | (dsimp only; omega)) (Nat.le_of_ble_eq_true rfl)) rfl ?_
    refine j_iadd C dX5_operand_206 ?_
    refine j_bipush C (v := 48) dX5_operand_207 rfl ?_
    refine j_isub C dX5_operand_209 ?_
    refine j_nmIP h (fun x11 h => ?_)
    refine j_istore_n C dX5_operand_210 rfl (by decide) rfl ?_
    refine j_iincNP C h dX5_operand_211 rfl rfl (by decide) rfl (fun x12 h => ?_)
    refine j_aload_n C dX5_operand_214 rfl rfl ?_
    refine j_dup C dX5_operand_215 rfl ?_
    obtain ⟨q13, g14, h⟩ := obP h
    refine jx_gi5 hκ C g14 0 (by decide) rfl q592 dX5_operand_216 ?_
    refine j_iconst C (v := 1) dX5_operand_219 rfl ?_
    refine j_iadd C dX5_operand_220 ?_
    obtain ⟨q15, g16, h⟩ := obP h
    refine jx_pi5 hκ C g16 0 (by decide) rfl rfl rfl q592 dX5_operand_221 ?_
    refine jx_nmTP h (fun T17 h => ?_)
    refine j_goto C dX5_operand_224 (tgt := 179) (by decide) ?_
    exact j_sub (ih _ _ _ _ h _ hb) ⟨rfl, ⟨rfl, ⟨rfl, trivial⟩⟩⟩
def r_operand (Q : (Option Nat) → XS → Prop) (o : rO) (N : Nat) (a0 : Nat) (m : Nat) (T : XS) : Prop :=
  bindP (getO T a0 5) fun q3 =>
  bindP (r_here T a0) fun v2 =>
  bindP (getO T a0 5) fun q5 =>
  bindP (r_one 0 T a0) fun v7 =>
  (if (b2i v7) = 0 then
  (if v2 = 33 then
  r_operand_b45 Q o N a0 v2 m T
  else
  (if v2 = 45 then
  r_operand_b45 Q o N a0 v2 m T
  else
  (if v2 = 40 then
  bindP (getO T a0 5) fun q12 =>
  b2P (r_opens T a0) fun v10 T11 =>
  (if (b2i v10) = 0 then
  bindP (getO T11 a0 5) fun q46 =>
  splP m fun m49 m50 =>
  r_wrong (fun v48 T53 =>
  Q v48 T53) a0 m49 T11 
  else
  bindP (getO T11 a0 5) fun q14 =>
  splP m fun m17 m18 =>
  r_either (fun v16 T21 =>
  bindP (getO T21 a0 5) fun q22 =>
  (if (q22.2.1 1) < 0 then
  bindP (getO T21 a0 5) fun q26 =>
  bindP (r_here T21 a0) fun v25 =>
  (if v25 = 41 then
  bindP (getO T21 a0 5) fun q28 =>
  bindP (getO T21 a0 5) fun q30 =>
  nmP (xO T21 a0 (oI q30 0 ((q28.2.1 0) + 1))) fun T32 =>
  bindP (getO T32 a0 5) fun q33 =>
  bindP (getO T32 a0 5) fun q35 =>
  nmP (xO T32 a0 (oI q35 2 ((q33.2.1 2) - 1))) fun T37 =>
  Q v16 T37
  else
  bindP (getO T21 a0 5) fun q38 =>
  splP m18 fun m41 m42 =>
  r_wrong (fun v40 T45 =>
  Q v40 T45) a0 m41 T21 )
  else
  Q none T21)) o N a0 m17 T11 )
  else
  r_operand_b179 Q o N a0 N m T 0 0)))
  else
  bindP (getO T a0 5) fun q54 =>
  bindP (getO T a0 5) fun q56 =>
  nmP (xO T a0 (oI q56 0 ((q54.2.1 0) + 1))) fun T58 =>
  budP m 1 fun m59 =>
  newP T58 fun q62 =>
  nmP (xO T58 q62 (mkO 8 [v2] [])) fun T63 =>
  Q (some q62) T63)
theorem mt_r_operand {κ : jK} (hκ : jX κ) (N : Nat) (G : Nat → Nat) {sa : Nat → Nat} (hl : jLits κ sa) {o : rO} {fo : Nat} (ho : okO κ G fo o) {m : Nat} {a0 : Nat} {T : XS} {Q : (Option Nat) → XS → Prop} (h : r_operand Q o N a0 m T) : jM κ yX5_operand (ws_ yX5_operand cX5_operand 4 (some (.object "NineKeysRound$Node"))) (fo + 11) m (64 * m) [.ref a0] (wX κ G T) (fun u w' => ∃ v T', Q v T' ∧ u = some (va_rf v) ∧ w' = wX κ G T') := by
  rw [r_operand] at h
  refine jM.of (by decide) rfl (Nat.le_of_ble_eq_true rfl) fun Γ C _ => ?_
  show J κ Γ ((fo + 11), m, 64 * m, (fun u w' => ∃ v T', Q v T' ∧ u = some (va_rf v) ∧ w' = wX κ G T')) 4 (wX κ G T) 0 (64 * 0) 0 [some (.ref a0), none, none, none] []
  have hb : 0 + m ≤ m := by omega
  refine j_aload_n C dX5_operand_0 rfl rfl ?_
  obtain ⟨q3, g4, h⟩ := obP h
  obtain ⟨v2, e1, h⟩ := obP h
  refine jx_Oi hκ C (mt_r_here hκ G e1) hG_r_here hy_r_here rfl g4 (by decide) rfl rfl dX5_operand_1 (jfit.of (by first | omega | (dsimp only; omega)) (by decide) (by first | omega | (dsimp only; omega)) (by first | omega | (dsimp only; omega)) (Nat.le_of_ble_eq_true rfl)) rfl ?_
  refine j_istore_n C dX5_operand_4 rfl (by decide) rfl ?_
  refine j_aload_n C dX5_operand_5 rfl rfl ?_
  refine j_ldcS C (tx := "vumdpn") (hl.2 0 (by decide)) dX5_operand_6 ?_
  obtain ⟨q5, g6, h⟩ := obP h
  obtain ⟨v7, e8, h⟩ := obP h
  refine jx_Oi hκ C (mt_r_one hκ G hl 0 (by decide) e8) hG_r_isOne hy_r_isOne rfl g6 (by decide) rfl rfl dX5_operand_8 ⟨(by first | omega | (dsimp only; omega)), by decide, (by first | omega | (dsimp only; omega)), (by first | omega | (dsimp only; omega)), (Nat.le_of_ble_eq_true rfl)⟩ rfl ?_
  refine j_if_eq C dX5_operand_11 (tgt := 33) (by decide) (fun c => ?_) (fun c => ?_)
  · replace h := ipP c h
    refine j_iload_n C dX5_operand_33 rfl rfl ?_
    refine j_bipush C (v := 33) dX5_operand_34 rfl ?_
    refine j_icmp_eq C dX5_operand_36 (tgt := 45) (by decide) (fun c => ?_) (fun c => ?_)
    · replace h := ipP c h
      exact j_sub (wr_operand_b45 hκ N C hl ho _ _ _ h _ hb) ⟨rfl, ⟨rfl, trivial⟩⟩
    replace h := imP c h
    refine j_iload_n C dX5_operand_39 rfl rfl ?_
    refine j_bipush C (v := 45) dX5_operand_40 rfl ?_
    refine j_icmp_ne C dX5_operand_42 (tgt := 107) (by decide) (fun c => ?_) (fun c => ?_)
    · replace h := imP c h
      refine j_iload_n C dX5_operand_107 rfl rfl ?_
      refine j_bipush C (v := 40) dX5_operand_108 rfl ?_
      refine j_icmp_ne C dX5_operand_110 (tgt := 175) (by decide) (fun c => ?_) (fun c => ?_)
      · replace h := imP c h
        refine j_iconst C (v := 0) dX5_operand_175 rfl ?_
        refine j_istore_n C dX5_operand_176 rfl (by decide) rfl ?_
        refine j_iconst C (v := 0) dX5_operand_177 rfl ?_
        refine j_istore_n C dX5_operand_178 rfl (by decide) rfl ?_
        exact j_sub (wr_operand_b179 hκ N C hl ho N _ _ _ _ h _ hb) ⟨rfl, ⟨rfl, ⟨rfl, trivial⟩⟩⟩
      replace h := ipP c h
      refine j_aload_n C dX5_operand_113 rfl rfl ?_
      obtain ⟨q12, g13, h⟩ := obP h
      obtain ⟨v10, T11, e9, h⟩ := ob2P h
      refine jx_Oi hκ C (mt_r_opens hκ G e9) hG_r_opens hy_r_opens rfl g13 (by decide) rfl rfl dX5_operand_114 (jfit.of (by first | omega | (dsimp only; omega)) (by decide) (by first | omega | (dsimp only; omega)) (by first | omega | (dsimp only; omega)) (Nat.le_of_ble_eq_true rfl)) rfl ?_
      refine j_if_ne C dX5_operand_117 (tgt := 125) (by decide) (fun c => ?_) (fun c => ?_)
      · replace h := imP c h
        refine j_aload_n C dX5_operand_125 rfl rfl ?_
        obtain ⟨q14, g15, h⟩ := obP h
        obtain ⟨m17, m18, e19, h⟩ := h
        have hb20 : 0 + m17 + m18 ≤ m := by omega
        refine jx_OQB hκ C (mt_r_either hκ N G hl ho h) hG_r_either hy_r_either rfl g15 (by decide) rfl rfl dX5_operand_126 ⟨(by first | omega | (dsimp only; omega)), by decide, (by first | omega | (dsimp only; omega)), (by first | omega | (dsimp only; omega)), (Nat.le_of_ble_eq_true rfl)⟩ rfl (fun v16 T21 h => ?_)
        refine j_astoreE_n C (e := v16) dX5_operand_129 rfl (by decide) rfl ?_
        refine j_aload_n C dX5_operand_130 rfl rfl ?_
        obtain ⟨q22, g23, h⟩ := obP h
        refine jx_gi5 hκ C g23 1 (by decide) rfl q593 dX5_operand_131 ?_
        refine j_if_lt C dX5_operand_134 (tgt := 139) (by decide) (fun c => ?_) (fun c => ?_)
        · replace h := ipP c h
          refine j_aload_n C dX5_operand_139 rfl rfl ?_
          obtain ⟨q26, g27, h⟩ := obP h
          obtain ⟨v25, e24, h⟩ := obP h
          refine jx_Oi hκ C (mt_r_here hκ G e24) hG_r_here hy_r_here rfl g27 (by decide) rfl rfl dX5_operand_140 (jfit.of (by first | omega | (dsimp only; omega)) (by decide) (by first | omega | (dsimp only; omega)) (by first | omega | (dsimp only; omega)) (Nat.le_of_ble_eq_true rfl)) rfl ?_
          refine j_bipush C (v := 41) dX5_operand_143 rfl ?_
          refine j_icmp_eq C dX5_operand_145 (tgt := 153) (by decide) (fun c => ?_) (fun c => ?_)
          · replace h := ipP c h
            refine j_aload_n C dX5_operand_153 rfl rfl ?_
            refine j_dup C dX5_operand_154 rfl ?_
            obtain ⟨q28, g29, h⟩ := obP h
            refine jx_gi5 hκ C g29 0 (by decide) rfl q592 dX5_operand_155 ?_
            refine j_iconst C (v := 1) dX5_operand_158 rfl ?_
            refine j_iadd C dX5_operand_159 ?_
            obtain ⟨q30, g31, h⟩ := obP h
            refine jx_pi5 hκ C g31 0 (by decide) rfl rfl rfl q592 dX5_operand_160 ?_
            refine jx_nmTP h (fun T32 h => ?_)
            refine j_aload_n C dX5_operand_163 rfl rfl ?_
            refine j_dup C dX5_operand_164 rfl ?_
            obtain ⟨q33, g34, h⟩ := obP h
            refine jx_gi5 hκ C g34 2 (by decide) rfl q595 dX5_operand_165 ?_
            refine j_iconst C (v := 1) dX5_operand_168 rfl ?_
            refine j_isub C dX5_operand_169 ?_
            obtain ⟨q35, g36, h⟩ := obP h
            refine jx_pi5 hκ C g36 2 (by decide) rfl rfl rfl q595 dX5_operand_170 ?_
            refine jx_nmTP h (fun T37 h => ?_)
            refine j_aloadE_n C (e := v16) dX5_operand_173 rfl rfl ?_
            exact j_aret C (e := v16) (Or.inl ⟨_, rfl⟩) dX5_operand_174 (by first | omega | (dsimp only; omega)) (by first | omega | (dsimp only; omega)) ⟨_, _, h, rfl, rfl⟩
          replace h := imP c h
          refine j_aload_n C dX5_operand_148 rfl rfl ?_
          obtain ⟨q38, g39, h⟩ := obP h
          obtain ⟨m41, m42, e43, h⟩ := h
          have hb44 : (0 + m17) + m41 + m42 ≤ m := by omega
          refine jx_OQB hκ C (mt_r_wrong hκ  G hl  h) hG_r_wrong hy_r_wrong rfl g39 (by decide) rfl rfl dX5_operand_149 ⟨(by first | omega | (dsimp only; omega)), by decide, (by first | omega | (dsimp only; omega)), (by first | omega | (dsimp only; omega)), (Nat.le_of_ble_eq_true rfl)⟩ rfl (fun v40 T45 h => ?_)
          exact j_aret C (e := v40) (Or.inl ⟨_, rfl⟩) dX5_operand_152 (by first | omega | (dsimp only; omega)) (by first | omega | (dsimp only; omega)) ⟨_, _, h, rfl, rfl⟩
        replace h := imP c h
        refine j_null C dX5_operand_137 ?_
        exact j_aret C (e := none) (Or.inl ⟨_, rfl⟩) dX5_operand_138 (by first | omega | (dsimp only; omega)) (by first | omega | (dsimp only; omega)) ⟨_, _, h, rfl, rfl⟩
      replace h := ipP c h
      refine j_aload_n C dX5_operand_120 rfl rfl ?_
      obtain ⟨q46, g47, h⟩ := obP h
      obtain ⟨m49, m50, e51, h⟩ := h
      have hb52 : 0 + m49 + m50 ≤ m := by omega
      refine jx_OQB hκ C (mt_r_wrong hκ  G hl  h) hG_r_wrong hy_r_wrong rfl g47 (by decide) rfl rfl dX5_operand_121 ⟨(by first | omega | (dsimp only; omega)), by decide, (by first | omega | (dsimp only; omega)), (by first | omega | (dsimp only; omega)), (Nat.le_of_ble_eq_true rfl)⟩ rfl (fun v48 T53 h => ?_)
      exact j_aret C (e := v48) (Or.inl ⟨_, rfl⟩) dX5_operand_124 (by first | omega | (dsimp only; omega)) (by first | omega | (dsimp only; omega)) ⟨_, _, h, rfl, rfl⟩
    replace h := ipP c h
    exact j_sub (wr_operand_b45 hκ N C hl ho _ _ _ h _ hb) ⟨rfl, ⟨rfl, trivial⟩⟩
  replace h := imP c h
  refine j_aload_n C dX5_operand_14 rfl rfl ?_
  refine j_dup C dX5_operand_15 rfl ?_
  obtain ⟨q54, g55, h⟩ := obP h
  refine jx_gi5 hκ C g55 0 (by decide) rfl q592 dX5_operand_16 ?_
  refine j_iconst C (v := 1) dX5_operand_19 rfl ?_
  refine j_iadd C dX5_operand_20 ?_
  obtain ⟨q56, g57, h⟩ := obP h
  refine jx_pi5 hκ C g57 0 (by decide) rfl rfl rfl q592 dX5_operand_21 ?_
  refine jx_nmTP h (fun T58 h => ?_)
  obtain ⟨m59, e60, h⟩ := h
  have hb61 : 0 + 1 + m59 ≤ m := by omega
  refine jx_newB hκ C 8 in_X8 tyX8 tyX8_ok q752 q753 q134 rfl (by intro j hj; rcases j with _ | _ | _ | _ | _ | j <;> first | rfl | omega) (by decide) (by first | omega | (dsimp only; omega)) (by first | omega | (dsimp only; omega)) dX5_operand_24 h (fun q62 h => ?_)
  refine j_dup C dX5_operand_27 rfl ?_
  refine j_iload_n C dX5_operand_28 rfl rfl ?_
  refine jx_I hκ C (mt_n8 hκ G _ _ v2) q756 q134 q754 q755 rfl (N := 1) ⟨by decide, by decide, by decide +kernel⟩ rfl dX5_operand_29 ⟨Nat.le_of_ble_eq_true rfl, by decide, (by first | omega | (dsimp only; omega)), (by first | omega | (dsimp only; omega)), Nat.le_of_ble_eq_true rfl⟩ rfl ?_
  refine jx_nmTP h (fun T63 h => ?_)
  exact j_aret C (e := (some q62)) (Or.inl ⟨_, rfl⟩) dX5_operand_32 (by first | omega | (dsimp only; omega)) (by first | omega | (dsimp only; omega)) ⟨_, _, h, rfl, rfl⟩
/-! line -/
def r_line (Q : (Option Nat) → XS → Prop) (o : rO) (N : Nat) (a0 : Nat) (m : Nat) (T : XS) : Prop :=
  budP m 1 fun m1 =>
  newP T fun q4 =>
  nmP (xO T q4 (mkO 6 [] [])) fun T5 =>
  bindP (getO T5 a0 5) fun q6 =>
  splP m1 fun m9 m10 =>
  r_either (fun v8 T13 =>
  bindP (getO T13 q4 6) fun q14 =>
  nmP (xO T13 q4 (oR q14 1 v8)) fun T16 =>
  bindP (getO T16 a0 5) fun q17 =>
  (if 0 ≤ (q17.2.1 1) then
  Q (some q4) T16
  else
  bindP (getO T16 a0 5) fun q21 =>
  bindP (r_here T16 a0) fun v20 =>
  (if v20 = 63 then
  bindP (getO T16 a0 5) fun q23 =>
  bindP (getO T16 a0 5) fun q25 =>
  nmP (xO T16 a0 (oI q25 0 ((q23.2.1 0) + 1))) fun T27 =>
  bindP (getO T27 q4 6) fun q28 =>
  bindP (getO T27 q4 6) fun q30 =>
  nmP (xO T27 q4 (oR q30 0 (q28.2.2.1 1))) fun T32 =>
  bindP (getO T32 a0 5) fun q33 =>
  splP m10 fun m36 m37 =>
  r_either (fun v35 T40 =>
  bindP (getO T40 q4 6) fun q41 =>
  nmP (xO T40 q4 (oR q41 1 v35)) fun T43 =>
  Q (some q4) T43) o N a0 m36 T32 
  else
  Q (some q4) T16))) o N a0 m9 T5 
theorem mt_r_line {κ : jK} (hκ : jX κ) (N : Nat) (G : Nat → Nat) {sa : Nat → Nat} (hl : jLits κ sa) {o : rO} {fo : Nat} (ho : okO κ G fo o) {m : Nat} {a0 : Nat} {T : XS} {Q : (Option Nat) → XS → Prop} (h : r_line Q o N a0 m T) : jM κ yX5_line (ws_ yX5_line cX5_line 2 (some (.object "NineKeysRound$Line"))) (fo + 11) m (64 * m) [.ref a0] (wX κ G T) (fun u w' => ∃ v T', Q v T' ∧ u = some (va_rf v) ∧ w' = wX κ G T') := by
  rw [r_line] at h
  refine jM.of (by decide) rfl (Nat.le_of_ble_eq_true rfl) fun Γ C _ => ?_
  show J κ Γ ((fo + 11), m, 64 * m, (fun u w' => ∃ v T', Q v T' ∧ u = some (va_rf v) ∧ w' = wX κ G T')) 2 (wX κ G T) 0 (64 * 0) 0 [some (.ref a0), none] []
  have hb : 0 + m ≤ m := by omega
  obtain ⟨m1, e2, h⟩ := h
  have hb3 : 0 + 1 + m1 ≤ m := by omega
  refine jx_newB hκ C 6 in_X6 tyX6 tyX6_ok q614 q615 q127 rfl (by intro j hj; rcases j with _ | _ | _ | _ | _ | j <;> first | rfl | omega) (by decide) (by first | omega | (dsimp only; omega)) (by first | omega | (dsimp only; omega)) dX5_line_0 h (fun q4 h => ?_)
  refine j_dup C dX5_line_3 rfl ?_
  refine jx_IN hκ C (mt_n6 hκ G _ _ ) q618 q127 q616 q617 rfl (N := 0) ⟨by decide, by decide, by decide +kernel⟩ rfl dX5_line_4 ⟨Nat.le_of_ble_eq_true rfl, by decide, (by first | omega | (dsimp only; omega)), (by first | omega | (dsimp only; omega)), Nat.le_of_ble_eq_true rfl⟩ rfl ?_
  refine jx_nmTP h (fun T5 h => ?_)
  refine j_astore_n C dX5_line_7 rfl (by decide) rfl ?_
  refine j_aload_n C dX5_line_8 rfl rfl ?_
  refine j_aload_n C dX5_line_9 rfl rfl ?_
  obtain ⟨q6, g7, h⟩ := obP h
  obtain ⟨m9, m10, e11, h⟩ := h
  have hb12 : (0 + 1) + m9 + m10 ≤ m := by omega
  refine jx_OQB hκ C (mt_r_either hκ N G hl ho h) hG_r_either hy_r_either rfl g7 (by decide) rfl rfl dX5_line_10 ⟨(by first | omega | (dsimp only; omega)), by decide, (by first | omega | (dsimp only; omega)), (by first | omega | (dsimp only; omega)), (Nat.le_of_ble_eq_true rfl)⟩ rfl (fun v8 T13 h => ?_)
  obtain ⟨q14, g15, h⟩ := obP h
  refine jx_pr6N hκ C g15 1 (by decide) rfl rfl rfl (v := v8) q622 dX5_line_13 ?_
  refine jx_nmTP h (fun T16 h => ?_)
  refine j_aload_n C dX5_line_16 rfl rfl ?_
  obtain ⟨q17, g18, h⟩ := obP h
  refine jx_gi5 hκ C g18 1 (by decide) rfl q593 dX5_line_17 ?_
  refine j_if_ge C dX5_line_20 (tgt := 32) (by decide) (fun c => ?_) (fun c => ?_)
  · replace h := ipP c h
    refine j_aload_n C dX5_line_32 rfl rfl ?_
    exact j_aret C (e := (some q4)) (Or.inl ⟨_, rfl⟩) dX5_line_33 (by first | omega | (dsimp only; omega)) (by first | omega | (dsimp only; omega)) ⟨_, _, h, rfl, rfl⟩
  replace h := imP c h
  refine j_aload_n C dX5_line_23 rfl rfl ?_
  obtain ⟨q21, g22, h⟩ := obP h
  obtain ⟨v20, e19, h⟩ := obP h
  refine jx_Oi hκ C (mt_r_here hκ G e19) hG_r_here hy_r_here rfl g22 (by decide) rfl rfl dX5_line_24 (jfit.of (by first | omega | (dsimp only; omega)) (by decide) (by first | omega | (dsimp only; omega)) (by first | omega | (dsimp only; omega)) (Nat.le_of_ble_eq_true rfl)) rfl ?_
  refine j_bipush C (v := 63) dX5_line_27 rfl ?_
  refine j_icmp_eq C dX5_line_29 (tgt := 34) (by decide) (fun c => ?_) (fun c => ?_)
  · replace h := ipP c h
    refine j_aload_n C dX5_line_34 rfl rfl ?_
    refine j_dup C dX5_line_35 rfl ?_
    obtain ⟨q23, g24, h⟩ := obP h
    refine jx_gi5 hκ C g24 0 (by decide) rfl q592 dX5_line_36 ?_
    refine j_iconst C (v := 1) dX5_line_39 rfl ?_
    refine j_iadd C dX5_line_40 ?_
    obtain ⟨q25, g26, h⟩ := obP h
    refine jx_pi5 hκ C g26 0 (by decide) rfl rfl rfl q592 dX5_line_41 ?_
    refine jx_nmTP h (fun T27 h => ?_)
    refine j_aload_n C dX5_line_44 rfl rfl ?_
    refine j_aload_n C dX5_line_45 rfl rfl ?_
    obtain ⟨q28, g29, h⟩ := obP h
    refine jx_gr6N hκ C g29 1 (by decide) rfl q622 dX5_line_46 ?_
    obtain ⟨q30, g31, h⟩ := obP h
    refine jx_pr6N hκ C g31 0 (by decide) rfl rfl rfl (v := q28.2.2.1 1) q620 dX5_line_49 ?_
    refine jx_nmTP h (fun T32 h => ?_)
    refine j_aload_n C dX5_line_52 rfl rfl ?_
    refine j_aload_n C dX5_line_53 rfl rfl ?_
    obtain ⟨q33, g34, h⟩ := obP h
    obtain ⟨m36, m37, e38, h⟩ := h
    have hb39 : ((0 + 1) + m9) + m36 + m37 ≤ m := by omega
    refine jx_OQB hκ C (mt_r_either hκ N G hl ho h) hG_r_either hy_r_either rfl g34 (by decide) rfl rfl dX5_line_54 ⟨(by first | omega | (dsimp only; omega)), by decide, (by first | omega | (dsimp only; omega)), (by first | omega | (dsimp only; omega)), (Nat.le_of_ble_eq_true rfl)⟩ rfl (fun v35 T40 h => ?_)
    obtain ⟨q41, g42, h⟩ := obP h
    refine jx_pr6N hκ C g42 1 (by decide) rfl rfl rfl (v := v35) q622 dX5_line_57 ?_
    refine jx_nmTP h (fun T43 h => ?_)
    refine j_aload_n C dX5_line_60 rfl rfl ?_
    exact j_aret C (e := (some q4)) (Or.inl ⟨_, rfl⟩) dX5_line_61 (by first | omega | (dsimp only; omega)) (by first | omega | (dsimp only; omega)) ⟨_, _, h, rfl, rfl⟩
  replace h := imP c h
  refine j_aload_n C dX5_line_32 rfl rfl ?_
  exact j_aret C (e := (some q4)) (Or.inl ⟨_, rfl⟩) dX5_line_33 (by first | omega | (dsimp only; omega)) (by first | omega | (dsimp only; omega)) ⟨_, _, h, rfl, rfl⟩
/-! lines -/
def r_lines_b49 (Q : (Option Nat) → XS → Prop) (o : rO) (N : Nat) (a0 : Nat) (l1 : (Option Nat)) (m : Nat) (T : XS) : Prop :=
  bindP (getO T a0 5) fun q1 =>
  (if 0 ≤ (q1.2.1 1) then
  Q l1 T
  else
  bindP (getO T a0 5) fun q3 =>
  bindP (getO T a0 5) fun q5 =>
  (if (T.1 10) ≤ (q3.2.1 0) then
  Q l1 T
  else
  bindP (getO T a0 5) fun q7 =>
  bindP (getO T a0 5) fun q9 =>
  nmP (xO T a0 (oI q9 1 (q7.2.1 0))) fun T11 =>
  Q l1 T11))
theorem wr_lines_b49 {κ : jK} (hκ : jX κ) (N : Nat) {MM : Nat} {Γ : jG} (C : jC κ Γ cX5_lines 3 RX5 (some (.object "NineKeysRound$Line"))) {G : Nat → Nat} {sa : Nat → Nat} (hl : jLits κ sa) {o : rO} {fo : Nat} (ho : okO κ G fo o) {a0 : Nat} (l1 : (Option Nat)) {Q : (Option Nat) → XS → Prop} : ∀ (m : Nat) (T : XS), r_lines_b49 Q o N a0 l1 m T → ∀ k : Nat, k + m ≤ MM → J κ Γ ((fo + 12), MM, 64 * MM, (fun u w' => ∃ v T', Q v T' ∧ u = some (va_rf v) ∧ w' = wX κ G T')) 3 (wX κ G T) k (64 * k) 49 [some (.ref a0), some (va_rf l1), none] [] := by
  intro m T h k hb
  rw [r_lines_b49] at h
  refine j_aload_n C dX5_lines_49 rfl rfl ?_
  obtain ⟨q1, g2, h⟩ := obP h
  refine jx_gi5 hκ C g2 1 (by decide) rfl q593 dX5_lines_50 ?_
  refine j_if_ge C dX5_lines_53 (tgt := 78) (by decide) (fun c => ?_) (fun c => ?_)
  · replace h := ipP c h
    refine j_aloadE_n C (e := l1) dX5_lines_78 rfl rfl ?_
    exact j_aret C (e := l1) (Or.inl ⟨_, rfl⟩) dX5_lines_79 (by first | omega | (dsimp only; omega)) (by first | omega | (dsimp only; omega)) ⟨_, _, h, rfl, rfl⟩
  replace h := imP c h
  refine j_aload_n C dX5_lines_56 rfl rfl ?_
  obtain ⟨q3, g4, h⟩ := obP h
  refine jx_gi5 hκ C g4 0 (by decide) rfl q592 dX5_lines_57 ?_
  refine j_aload_n C dX5_lines_60 rfl rfl ?_
  obtain ⟨q5, g6, h⟩ := obP h
  refine jx_gt5 hκ C g6 3 (by decide) rfl q596 dX5_lines_61 ?_
  refine jx_getiN hκ C 10 (by decide) rfl q198 dX5_lines_64 ?_
  refine j_icmp_ge C dX5_lines_67 (tgt := 78) (by decide) (fun c => ?_) (fun c => ?_)
  · replace h := ipP c h
    refine j_aloadE_n C (e := l1) dX5_lines_78 rfl rfl ?_
    exact j_aret C (e := l1) (Or.inl ⟨_, rfl⟩) dX5_lines_79 (by first | omega | (dsimp only; omega)) (by first | omega | (dsimp only; omega)) ⟨_, _, h, rfl, rfl⟩
  replace h := imP c h
  refine j_aload_n C dX5_lines_70 rfl rfl ?_
  refine j_aload_n C dX5_lines_71 rfl rfl ?_
  obtain ⟨q7, g8, h⟩ := obP h
  refine jx_gi5 hκ C g8 0 (by decide) rfl q592 dX5_lines_72 ?_
  obtain ⟨q9, g10, h⟩ := obP h
  refine jx_pi5 hκ C g10 1 (by decide) rfl rfl rfl q593 dX5_lines_75 ?_
  refine jx_nmTP h (fun T11 h => ?_)
  refine j_aloadE_n C (e := l1) dX5_lines_78 rfl rfl ?_
  exact j_aret C (e := l1) (Or.inl ⟨_, rfl⟩) dX5_lines_79 (by first | omega | (dsimp only; omega)) (by first | omega | (dsimp only; omega)) ⟨_, _, h, rfl, rfl⟩
def r_lines_b7 (Q : (Option Nat) → XS → Prop) (o : rO) (N : Nat) (a0 : Nat) (l1 : (Option Nat)) : Nat → Nat → XS → (Option Nat) → Prop
  | 0, _, _, _ => False
  | n + 1, m, T, l2 =>
    bindP (getO T a0 5) fun q1 =>
    (if 0 ≤ (q1.2.1 1) then
    r_lines_b49 Q o N a0 l1 m T
    else
    bindP (getO T a0 5) fun q5 =>
    bindP (r_here T a0) fun v4 =>
    (if v4 = 59 then
    bindP (getO T a0 5) fun q7 =>
    bindP (getO T a0 5) fun q9 =>
    nmP (xO T a0 (oI q9 0 ((q7.2.1 0) + 1))) fun T11 =>
    bindP (getO T11 a0 5) fun q12 =>
    splP m fun m15 m16 =>
    r_line (fun v14 T19 =>
    bindP (l2) fun a20 =>
    bindP (getO T19 a20 6) fun q22 =>
    nmP (xO T19 a20 (oR q22 2 v14)) fun T24 =>
    bindP (getO T24 a20 6) fun q25 =>
    r_lines_b7 Q o N a0 l1 n m16 T24 (q25.2.2.1 2)) o N a0 m15 T11 
    else
    r_lines_b49 Q o N a0 l1 m T))
theorem wr_lines_b7 {κ : jK} (hκ : jX κ) (N : Nat) {MM : Nat} {Γ : jG} (C : jC κ Γ cX5_lines 3 RX5 (some (.object "NineKeysRound$Line"))) {G : Nat → Nat} {sa : Nat → Nat} (hl : jLits κ sa) {o : rO} {fo : Nat} (ho : okO κ G fo o) {a0 : Nat} (l1 : (Option Nat)) {Q : (Option Nat) → XS → Prop} : ∀ (n : Nat) (m : Nat) (T : XS) (l2 : (Option Nat)), r_lines_b7 Q o N a0 l1 n m T l2 → ∀ k : Nat, k + m ≤ MM → J κ Γ ((fo + 12), MM, 64 * MM, (fun u w' => ∃ v T', Q v T' ∧ u = some (va_rf v) ∧ w' = wX κ G T')) 3 (wX κ G T) k (64 * k) 7 [some (.ref a0), some (va_rf l1), some (va_rf l2)] [] := by
  intro n
  induction n with
  | zero => intro _ _ _ h; cases h
  | succ n ih =>
    intro m T l2 h k hb
    rw [r_lines_b7] at h
    refine j_aload_n C dX5_lines_7 rfl rfl ?_
    obtain ⟨q1, g2, h⟩ := obP h
    refine jx_gi5 hκ C g2 1 (by decide) rfl q593 dX5_lines_8 ?_
    refine j_if_ge C dX5_lines_11 (tgt := 49) (by decide) (fun c => ?_) (fun c => ?_)
    · replace h := ipP c h
      exact j_sub (wr_lines_b49 hκ N C hl ho _ _ _ h _ hb) ⟨rfl, ⟨rfl, trivial⟩⟩
    replace h := imP c h
    refine j_aload_n C dX5_lines_14 rfl rfl ?_
    obtain ⟨q5, g6, h⟩ := obP h
    obtain ⟨v4, e3, h⟩ := obP h
    refine jx_Oi hκ C (mt_r_here hκ G e3) hG_r_here hy_r_here rfl g6 (by decide) rfl rfl dX5_lines_15 (jfit.of (by first | omega | (dsimp only; omega)) (by decide) (by first | omega | (dsimp only; omega)) (by first | omega | (dsimp only; omega)) (Nat.le_of_ble_eq_true rfl)) rfl ?_
    refine j_bipush C (v := 59) dX5_lines_18 rfl ?_
    refine j_icmp_ne C dX5_lines_20 (tgt := 49) (by decide) (fun c => ?_) (fun c => ?_)
    · replace h := imP c h
      exact j_sub (wr_lines_b49 hκ N C hl ho _ _ _ h _ hb) ⟨rfl, ⟨rfl, trivial⟩⟩
    replace h := ipP c h
    refine j_aload_n C dX5_lines_23 rfl rfl ?_
    refine j_dup C dX5_lines_24 rfl ?_
    obtain ⟨q7, g8, h⟩ := obP h
    refine jx_gi5 hκ C g8 0 (by decide) rfl q592 dX5_lines_25 ?_
    refine j_iconst C (v := 1) dX5_lines_28 rfl ?_
    refine j_iadd C dX5_lines_29 ?_
    obtain ⟨q9, g10, h⟩ := obP h
    refine jx_pi5 hκ C g10 0 (by decide) rfl rfl rfl q592 dX5_lines_30 ?_
    refine jx_nmTP h (fun T11 h => ?_)
    refine j_aloadE_n C (e := l2) dX5_lines_33 rfl rfl ?_
    refine j_aload_n C dX5_lines_34 rfl rfl ?_
    obtain ⟨q12, g13, h⟩ := obP h
    obtain ⟨m15, m16, e17, h⟩ := h
    have hb18 : k + m15 + m16 ≤ MM := by omega
    refine jx_OQB hκ C (mt_r_line hκ N G hl ho h) hG_r_line hy_r_line rfl g13 (by decide) rfl rfl dX5_lines_35 ⟨(by first | omega | (dsimp only; omega)), by decide, (by first | omega | (dsimp only; omega)), (by first | omega | (dsimp only; omega)), (by cases l2 <;> exact Nat.le_of_ble_eq_true rfl)⟩ rfl (fun v14 T19 h => ?_)
    obtain ⟨a20, w21, h9⟩ := obP h
    subst w21
    replace h := h9
    obtain ⟨q22, g23, h⟩ := obP h
    refine jx_pr6N hκ C g23 2 (by decide) rfl rfl rfl (v := v14) q624 dX5_lines_38 ?_
    refine jx_nmTP h (fun T24 h => ?_)
    refine j_aload_n C dX5_lines_41 rfl rfl ?_
    obtain ⟨q25, g26, h⟩ := obP h
    refine jx_gr6N hκ C g26 2 (by decide) rfl q624 dX5_lines_42 ?_
    refine j_astoreE_n C (e := q25.2.2.1 2) dX5_lines_45 rfl (by decide) (jok_rf rfl) ?_
    refine j_goto C dX5_lines_46 (tgt := 7) (by decide) ?_
    exact j_sub (ih _ _ _ h _ hb18) ⟨rfl, ⟨rfl, ⟨rfl, trivial⟩⟩⟩
def r_lines (Q : (Option Nat) → XS → Prop) (o : rO) (N : Nat) (a0 : Nat) (m : Nat) (T : XS) : Prop :=
  bindP (getO T a0 5) fun q1 =>
  splP m fun m4 m5 =>
  r_line (fun v3 T8 =>
  r_lines_b7 Q o N a0 v3 N m5 T8 v3) o N a0 m4 T 
theorem mt_r_lines {κ : jK} (hκ : jX κ) (N : Nat) (G : Nat → Nat) {sa : Nat → Nat} (hl : jLits κ sa) {o : rO} {fo : Nat} (ho : okO κ G fo o) {m : Nat} {a0 : Nat} {T : XS} {Q : (Option Nat) → XS → Prop} (h : r_lines Q o N a0 m T) : jM κ yX5_lines (ws_ yX5_lines cX5_lines 3 (some (.object "NineKeysRound$Line"))) (fo + 12) m (64 * m) [.ref a0] (wX κ G T) (fun u w' => ∃ v T', Q v T' ∧ u = some (va_rf v) ∧ w' = wX κ G T') := by
  rw [r_lines] at h
  refine jM.of (by decide) rfl (Nat.le_of_ble_eq_true rfl) fun Γ C _ => ?_
  show J κ Γ ((fo + 12), m, 64 * m, (fun u w' => ∃ v T', Q v T' ∧ u = some (va_rf v) ∧ w' = wX κ G T')) 3 (wX κ G T) 0 (64 * 0) 0 [some (.ref a0), none, none] []
  have hb : 0 + m ≤ m := by omega
  refine j_aload_n C dX5_lines_0 rfl rfl ?_
  obtain ⟨q1, g2, h⟩ := obP h
  obtain ⟨m4, m5, e6, h⟩ := h
  have hb7 : 0 + m4 + m5 ≤ m := by omega
  refine jx_OQB hκ C (mt_r_line hκ N G hl ho h) hG_r_line hy_r_line rfl g2 (by decide) rfl rfl dX5_lines_1 ⟨(by first | omega | (dsimp only; omega)), by decide, (by first | omega | (dsimp only; omega)), (by first | omega | (dsimp only; omega)), (Nat.le_of_ble_eq_true rfl)⟩ rfl (fun v3 T8 h => ?_)
  refine j_astoreE_n C (e := v3) dX5_lines_4 rfl (by decide) rfl ?_
  refine j_aloadE_n C (e := v3) dX5_lines_5 rfl rfl ?_
  refine j_astoreE_n C (e := v3) dX5_lines_6 rfl (by decide) (jok_rf rfl) ?_
  exact j_sub (wr_lines_b7 hκ N C hl ho _ N _ _ _ h _ hb7) ⟨rfl, ⟨rfl, ⟨rfl, trivial⟩⟩⟩
def r_op (N : Nat) : Nat → rO
  | 0 => fun _ _ _ _ => False
  | d + 1 => fun Q a0 m T => r_operand Q (r_op N d) N a0 m T
theorem mt_r_op {κ : jK} (hκ : jX κ) (N : Nat) (G : Nat → Nat) {sa : Nat → Nat} (hl : jLits κ sa) : ∀ d : Nat, okO κ G (11 * d) (r_op N d) := by
  intro d
  induction d with
  | zero => intro Q a0 m T h; cases h
  | succ d ih =>
    intro Q a0 m T h
    exact mt_r_operand hκ N G hl ih h
