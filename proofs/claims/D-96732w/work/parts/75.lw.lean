set_option maxRecDepth 100000
/-! law -/
def x_law (Q : Int32 → XS → Prop) (N : Nat) (m : Nat) (T : XS) : Prop :=
  budP m 1 fun m1 =>
  newP T fun q4 =>
  nmP (xO T q4 (mkO 5 [0, (-1)] [])) fun T5 =>
  bindP (getO T5 q4 5) fun q6 =>
  splP m1 fun m9 m10 =>
  r_lines (fun v8 T13 =>
  nmP (xI T13 10 0) fun T14 =>
  bindP (getO T14 q4 5) fun q15 =>
  (if (q15.2.1 1) < 0 then
  nmP (xR T14 11 0 v8) fun T17 =>
  Q 1 T17
  else
  bindP (getO T14 q4 5) fun q18 =>
  Q ((-100) - (q18.2.1 1)) T14)) (r_op N 8) N q4 m9 T5 
theorem mt_x_law {κ : jK} (hκ : jX κ) (N : Nat) (G : Nat → Nat) {sa : Nat → Nat} (hl : jLits κ sa) {m : Nat} {T : XS} {Q : Int32 → XS → Prop} (h : x_law Q N m T) : jM κ yX0_law (ws_ yX0_law cX0_law 3 (some .int)) 101 m (64 * m) [.ref (G 0)] (wX κ G T) (fun u w' => ∃ v T', Q v T' ∧ u = some (.int v) ∧ w' = wX κ G T') := by
  rw [x_law] at h
  refine jM.of (by decide) rfl (Nat.le_of_ble_eq_true rfl) fun Γ C _ => ?_
  show J κ Γ (101, m, 64 * m, (fun u w' => ∃ v T', Q v T' ∧ u = some (.int v) ∧ w' = wX κ G T')) 3 (wX κ G T) 0 (64 * 0) 0 [some (.ref (G 0)), none, none] []
  have hb : 0 + m ≤ m := by omega
  obtain ⟨m1, e2, h⟩ := h
  have hb3 : 0 + 1 + m1 ≤ m := by omega
  refine jx_newB hκ C 5 in_X5 tyX5 tyX5_ok q586 q587 q126 rfl (by intro j hj; rcases j with _ | _ | _ | _ | _ | j <;> first | rfl | omega) (by decide) (by first | omega | (dsimp only; omega)) (by first | omega | (dsimp only; omega)) dX0_law_0 h (fun q4 h => ?_)
  refine j_dup C dX0_law_3 rfl ?_
  refine j_aload_n C dX0_law_4 rfl rfl ?_
  refine jx_IN hκ C (mt_n5 hκ G _ _ ) q590 q126 q588 q589 rfl (N := 1) ⟨by decide, by decide, by decide +kernel⟩ rfl dX0_law_5 ⟨Nat.le_of_ble_eq_true rfl, by decide, (by first | omega | (dsimp only; omega)), (by first | omega | (dsimp only; omega)), Nat.le_of_ble_eq_true rfl⟩ rfl ?_
  refine jx_nmTP h (fun T5 h => ?_)
  refine j_astore_n C dX0_law_8 rfl (by decide) rfl ?_
  refine j_aload_n C dX0_law_9 rfl rfl ?_
  obtain ⟨q6, g7, h⟩ := obP h
  obtain ⟨m9, m10, e11, h⟩ := h
  have hb12 : (0 + 1) + m9 + m10 ≤ m := by omega
  refine jx_OQB hκ C (mt_r_lines hκ N G hl (mt_r_op hκ N G hl 8) h) hG_r_lines_x hy_r_lines rfl g7 (by decide) rfl rfl dX0_law_10 ⟨(by first | omega | (dsimp only; omega)), by decide, (by first | omega | (dsimp only; omega)), (by first | omega | (dsimp only; omega)), (Nat.le_of_ble_eq_true rfl)⟩ rfl (fun v8 T13 h => ?_)
  refine j_astoreE_n C (e := v8) dX0_law_13 rfl (by decide) rfl ?_
  refine j_aload_n C dX0_law_14 rfl rfl ?_
  refine j_iconst C (v := 0) dX0_law_15 rfl ?_
  refine jx_puti hκ C 10 (by decide) rfl rfl rfl q199 dX0_law_16 ?_
  refine jx_nmTP h (fun T14 h => ?_)
  refine j_aload_n C dX0_law_19 rfl rfl ?_
  obtain ⟨q15, g16, h⟩ := obP h
  refine jx_gi5N hκ C g16 1 (by decide) rfl q594 dX0_law_20 ?_
  refine j_if_lt C dX0_law_23 (tgt := 34) (by decide) (fun c => ?_) (fun c => ?_)
  · replace h := ipP c h
    refine j_aload_n C dX0_law_34 rfl rfl ?_
    refine j_aloadE_n C (e := v8) dX0_law_35 rfl rfl ?_
    refine jx_putlaw hκ C (x := v8) q200 dX0_law_36 ?_
    refine jx_nmTP h (fun T17 h => ?_)
    refine j_iconst C (v := 1) dX0_law_39 rfl ?_
    exact j_iret C dX0_law_40 (by first | omega | (dsimp only; omega)) (by first | omega | (dsimp only; omega)) ⟨_, _, h, rfl, rfl⟩
  replace h := imP c h
  refine j_bipush C (v := (-100)) dX0_law_26 rfl ?_
  refine j_aload_n C dX0_law_28 rfl rfl ?_
  obtain ⟨q18, g19, h⟩ := obP h
  refine jx_gi5N hκ C g19 1 (by decide) rfl q594 dX0_law_29 ?_
  refine j_isub C dX0_law_32 ?_
  exact j_iret C dX0_law_33 (by first | omega | (dsimp only; omega)) (by first | omega | (dsimp only; omega)) ⟨_, _, h, rfl, rfl⟩
