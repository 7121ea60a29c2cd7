set_option maxRecDepth 100000
theorem hG_r_here : GoodIn lw_all (wsV "NineKeysRound$Reader" 29 yX5_here.cls yX5_here (ws_ yX5_here cX5_here 1 (some .int))) := lw_V q657 q659 qs15 q126 q660
theorem hy_r_here : yX5_here.cls ≠ "java/lang/invoke/MethodHandle" ∧ yX5_here.cls ≠ "java/lang/invoke/VarHandle" ∧ (parseMethodDescriptor yX5_here.desc).map (fun d => d.parameters.length) = some 0 := ⟨by decide, by decide, by decide +kernel⟩
theorem hG_r_opens : GoodIn lw_all (wsV "NineKeysRound$Reader" 105 yX5_opens.cls yX5_opens (ws_ yX5_opens cX5_opens 1 (some .boolean))) := lw_V q765 q767 qs17 q126 q768
theorem hy_r_opens : yX5_opens.cls ≠ "java/lang/invoke/MethodHandle" ∧ yX5_opens.cls ≠ "java/lang/invoke/VarHandle" ∧ (parseMethodDescriptor yX5_opens.desc).map (fun d => d.parameters.length) = some 0 := ⟨by decide, by decide, by decide +kernel⟩
/-! here -/
def r_here (T : XS) (a0 : Nat) : Option Int32 :=
  (getO T a0 5).bind fun q1 =>
  (getO T a0 5).bind fun q3 =>
  (if (T.1 10) ≤ (q1.2.1 0) then
  some (-1)
  else
  (getO T a0 5).bind fun q5 =>
  (getO T a0 5).bind fun q7 =>
  chk 120 (q7.2.1 0) (
  some (T.2.1 9 (q7.2.1 0).toNatClampNeg)))
theorem mt_r_here {κ : jK} (hκ : jX κ) (G : Nat → Nat) {T : XS} {a0 : Nat} {v : Int32} (h : r_here T a0 = some v) : jM κ yX5_here (ws_ yX5_here cX5_here 1 (some .int)) 0 0 0 [.ref a0] (wX κ G T) (fun u w' => u = some (.int v) ∧ w' = wX κ G T) := by
  rw [r_here] at h
  refine jM.of (by decide) rfl (Nat.le_of_ble_eq_true rfl) fun Γ C _ => ?_
  show J κ Γ (0, 0, 0, (fun u w' => u = some (.int v) ∧ w' = wX κ G T)) 1 (wX κ G T) 0 0 0 [some (.ref a0)] []
  refine j_aload_n C dX5_here_0 rfl rfl ?_
  obtain ⟨q1, g2, h⟩ := ob h
  refine jx_gi5 hκ C g2 0 (by decide) rfl q592 dX5_here_1 ?_
  refine j_aload_n C dX5_here_4 rfl rfl ?_
  obtain ⟨q3, g4, h⟩ := ob h
  refine jx_gt5 hκ C g4 3 (by decide) rfl q596 dX5_here_5 ?_
  refine jx_getiN hκ C 10 (by decide) rfl q198 dX5_here_8 ?_
  refine j_icmp_ge C dX5_here_11 (tgt := 29) (by decide) (fun c => ?_) (fun c => ?_)
  · replace h := ip c h
    refine j_iconst C (v := (-1)) dX5_here_29 rfl ?_
    obtain rfl := sp1 h
    exact j_iret C dX5_here_30 (Nat.le_of_ble_eq_true rfl) (Nat.le_of_ble_eq_true rfl) ⟨rfl, rfl⟩
  replace h := im c h
  refine j_aload_n C dX5_here_14 rfl rfl ?_
  obtain ⟨q5, g6, h⟩ := ob h
  refine jx_gt5 hκ C g6 3 (by decide) rfl q596 dX5_here_15 ?_
  refine jx_getaN hκ C 9 (by decide) rfl rfl q197 dX5_here_18 ?_
  refine j_aload_n C dX5_here_21 rfl rfl ?_
  obtain ⟨q7, g8, h⟩ := ob h
  refine jx_gi5 hκ C g8 0 (by decide) rfl q592 dX5_here_22 ?_
  obtain ⟨b9, h⟩ := chk_some h
  refine jx_bald hκ C 9 rfl rfl b9 dX5_here_25 ?_
  refine j_goto C dX5_here_26 (tgt := 30) (by decide) ?_
  obtain rfl := sp1 h
  exact j_iret C dX5_here_30 (Nat.le_of_ble_eq_true rfl) (Nat.le_of_ble_eq_true rfl) ⟨rfl, rfl⟩
/-! opens -/
def r_opens (T : XS) (a0 : Nat) : Option (Bool × XS) :=
  (getO T a0 5).bind fun q1 =>
  (if (q1.2.1 2) = 6 then
  some (false, T)
  else
  (getO T a0 5).bind fun q3 =>
  (getO T a0 5).bind fun q5 =>
  nm (xO T a0 (oI q5 2 ((q3.2.1 2) + 1))) fun T7 =>
  (getO T7 a0 5).bind fun q8 =>
  (getO T7 a0 5).bind fun q10 =>
  nm (xO T7 a0 (oI q10 0 ((q8.2.1 0) + 1))) fun T12 =>
  some (true, T12))
theorem mt_r_opens {κ : jK} (hκ : jX κ) (G : Nat → Nat) {T : XS} {a0 : Nat} {v : Bool} {T' : XS} (h : r_opens T a0 = some (v, T')) : jM κ yX5_opens (ws_ yX5_opens cX5_opens 1 (some .boolean)) 0 0 0 [.ref a0] (wX κ G T) (fun u w' => u = some (.int (b2i v)) ∧ w' = wX κ G T') := by
  rw [r_opens] at h
  refine jM.of (by decide) rfl (Nat.le_of_ble_eq_true rfl) fun Γ C _ => ?_
  show J κ Γ (0, 0, 0, (fun u w' => u = some (.int (b2i v)) ∧ w' = wX κ G T')) 1 (wX κ G T) 0 0 0 [some (.ref a0)] []
  refine j_aload_n C dX5_opens_0 rfl rfl ?_
  obtain ⟨q1, g2, h⟩ := ob h
  refine jx_gi5 hκ C g2 2 (by decide) rfl q595 dX5_opens_1 ?_
  refine j_bipush C (v := 6) dX5_opens_4 rfl ?_
  refine j_icmp_ne C dX5_opens_6 (tgt := 11) (by decide) (fun c => ?_) (fun c => ?_)
  · replace h := im c h
    refine j_aload_n C dX5_opens_11 rfl rfl ?_
    refine j_dup C dX5_opens_12 rfl ?_
    obtain ⟨q3, g4, h⟩ := ob h
    refine jx_gi5 hκ C g4 2 (by decide) rfl q595 dX5_opens_13 ?_
    refine j_iconst C (v := 1) dX5_opens_16 rfl ?_
    refine j_iadd C dX5_opens_17 ?_
    obtain ⟨q5, g6, h⟩ := ob h
    refine jx_pi5 hκ C g6 2 (by decide) rfl rfl rfl q595 dX5_opens_18 ?_
    refine jx_nmT h (fun T7 h => ?_)
    refine j_aload_n C dX5_opens_21 rfl rfl ?_
    refine j_dup C dX5_opens_22 rfl ?_
    obtain ⟨q8, g9, h⟩ := ob h
    refine jx_gi5 hκ C g9 0 (by decide) rfl q592 dX5_opens_23 ?_
    refine j_iconst C (v := 1) dX5_opens_26 rfl ?_
    refine j_iadd C dX5_opens_27 ?_
    obtain ⟨q10, g11, h⟩ := ob h
    refine jx_pi5 hκ C g11 0 (by decide) rfl rfl rfl q592 dX5_opens_28 ?_
    refine jx_nmT h (fun T12 h => ?_)
    refine j_iconst C (v := 1) dX5_opens_31 rfl ?_
    obtain ⟨rfl, rfl⟩ := sp2 h
    exact j_zret C rfl dX5_opens_32 (Nat.le_of_ble_eq_true rfl) (Nat.le_of_ble_eq_true rfl) ⟨rfl, rfl⟩
  replace h := ip c h
  refine j_iconst C (v := 0) dX5_opens_9 rfl ?_
  obtain ⟨rfl, rfl⟩ := sp2 h
  exact j_zret C rfl dX5_opens_10 (Nat.le_of_ble_eq_true rfl) (Nat.le_of_ble_eq_true rfl) ⟨rfl, rfl⟩
