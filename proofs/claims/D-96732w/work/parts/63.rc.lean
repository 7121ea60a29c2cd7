/-! CONSTRUCTORS of the rows. Own text, printed by rowc.py. -/
set_option maxRecDepth 100000
/-- an array as it is made -/
def mkA (t N : Nat) : XO := (t, fun _ => 0, fun _ => none, N, fun _ => 0, fun _ => 0)
theorem wX_new {κ : jK} {G : Nat → Nat} {S : XS} {b : Nat} (h : ∀ (r : Nat) (x : Nat × va_E), wX κ G S r = some x → x.1 ≠ b) : S.2.2.2 b = none := by
  cases hx : S.2.2.2 b with
  | none => rfl
  | some x => exact absurd rfl (h (100 + b) _ (wX_ob κ G S hx))
theorem xO_at (S : XS) (a : Nat) (x : XO) : (xO S a x).2.2.2 a = some x := by unfold xO updO; exact if_pos rfl
theorem xO_ne (S : XS) {a q : Nat} (x : XO) (h : q ≠ a) : (xO S a x).2.2.2 q = S.2.2.2 q := by unfold xO updO; exact if_neg h
theorem mt_n23 {κ : jK} (hκ : jX κ) (G : Nat → Nat) (T : XS) (q : Nat) {p1 : Int32} {N : Nat} (h0 : ¬ p1 < 0) (hN : p1.toNatClampNeg = N) (hle : N ≤ 60) : jM κ yX23_init (ws_ yX23_init cX23_init 2 none) 4 1 64 [.ref q, .int p1] (wX κ G (xO T q (rawO 23))) (fun u w' => ∃ b, (xO T q (rawO 23)).2.2.2 b = none ∧ u = none ∧ w' = wX κ G (xO (xO (xO T q (rawO 23)) b (mkA 30 N)) q (mkO 23 [] [some b]))) := by
  refine jM.of (by decide) rfl (Nat.le_of_ble_eq_true rfl) fun Γ C hnm => ?_
  show J κ Γ (4, 1, 64, _) 2 (wX κ G (xO T q (rawO 23))) 0 0 0 [some (.ref q), some (.int p1)] []
  refine j_aload_n C dX23_init_0 rfl rfl ?_
  refine j_callIN hκ C (As := []) (mt_iN22 hκ _ _) q1449 q150 q1447 q1448 rfl (N := 0) ⟨by decide, by decide, by decide +kernel⟩ rfl dX23_init_1 ⟨Nat.le_of_ble_eq_true rfl, by decide, Nat.le_of_ble_eq_true rfl, Nat.le_of_ble_eq_true rfl, Nat.le_of_ble_eq_true rfl⟩ rfl (fun u w1 hp => ?_)
  obtain ⟨rfl, rfl⟩ := hp
  refine j_aload_n C dX23_init_4 rfl rfl ?_
  refine j_iload_n C dX23_init_5 rfl rfl ?_
  refine j_newarr C (ty := .byte) rfl q181 (t0 := 3) (hκ.ty 3 rfl) (fun _ h => by cases h) (a0 := (N, .inl fun _ => 0)) (fun cA => ?_) h0 hN (by show N * _ ≤ _; simp only [componentBytes]; omega) (Nat.le_of_ble_eq_true rfl) (by show 0 + N ≤ 64; omega) (fun b => 100 + b) dX23_init_6 (fun b hb => ?_)
  · rfl
  have hf := wX_new hb
  have hne : q ≠ b := fun e => by rw [← e, xO_at] at hf; cases hf
  have e1 : jset (wX κ G (xO T q (rawO 23))) (100 + b) (b, obE κ G (mkA 30 N)) = _ := wX_sO κ G _ b (mkA 30 N)
  refine j_world (w' := wX κ G (xO (xO T q (rawO 23)) b (mkA 30 N))) (by rw [← e1]; rfl) ?_
  have he : wX κ G (xO (xO T q (rawO 23)) b (mkA 30 N)) (100 + q) = some (q, .inr (oCi 23, rawF 23)) := by rw [wX_ob κ G _ (x := rawO 23) (by rw [xO_ne _ _ hne, xO_at]), obE_raw]
  refine j_putF C hnm in_X23 tyX23 tyX23_ok nmX23 (100 + q) he (hκ.cl rfl) 0 (by decide) q1451 rfl rfl rfl rfl (v := .ref b) rfl rfl (by decide) dX23_init_8 ?_
  have e2 : jset (wX κ G (xO (xO T q (rawO 23)) b (mkA 30 N))) (100 + q) (q, obE κ G (mkO 23 [] [some b])) = _ := wX_sO κ G _ q (mkO 23 [] [some b])
  rw [obE_o (t := 23) rfl (by decide)] at e2
  refine j_world e2 ?_
  exact j_vret C dX23_init_11 (Nat.le_of_ble_eq_true rfl) (by show 0 + N ≤ 64; omega) ⟨b, hf, rfl, rfl⟩
theorem mt_n24 {κ : jK} (hκ : jX κ) (G : Nat → Nat) (T : XS) (q : Nat) {p1 : Int32} {N : Nat} (h0 : ¬ p1 < 0) (hN : p1.toNatClampNeg = N) (hle : N ≤ 60) : jM κ yX24_init (ws_ yX24_init cX24_init 2 none) 4 1 64 [.ref q, .int p1] (wX κ G (xO T q (rawO 24))) (fun u w' => ∃ b, (xO T q (rawO 24)).2.2.2 b = none ∧ u = none ∧ w' = wX κ G (xO (xO (xO T q (rawO 24)) b (mkA 31 N)) q (mkO 24 [] [some b]))) := by
  refine jM.of (by decide) rfl (Nat.le_of_ble_eq_true rfl) fun Γ C hnm => ?_
  show J κ Γ (4, 1, 64, _) 2 (wX κ G (xO T q (rawO 24))) 0 0 0 [some (.ref q), some (.int p1)] []
  refine j_aload_n C dX24_init_0 rfl rfl ?_
  refine j_callIN hκ C (As := []) (mt_iN22 hκ _ _) q1449 q150 q1459 q1448 rfl (N := 0) ⟨by decide, by decide, by decide +kernel⟩ rfl dX24_init_1 ⟨Nat.le_of_ble_eq_true rfl, by decide, Nat.le_of_ble_eq_true rfl, Nat.le_of_ble_eq_true rfl, Nat.le_of_ble_eq_true rfl⟩ rfl (fun u w1 hp => ?_)
  obtain ⟨rfl, rfl⟩ := hp
  refine j_aload_n C dX24_init_4 rfl rfl ?_
  refine j_iload_n C dX24_init_5 rfl rfl ?_
  refine j_newarr C (ty := .short) rfl q1464 (t0 := 4) (hκ.ty 4 rfl) (fun _ h => by cases h) (a0 := (N, .inl fun _ => 0)) (fun cA => ?_) h0 hN (by show N * _ ≤ _; simp only [componentBytes]; omega) (Nat.le_of_ble_eq_true rfl) (by show 0 + N ≤ 64; omega) (fun b => 100 + b) dX24_init_6 (fun b hb => ?_)
  · rfl
  have hf := wX_new hb
  have hne : q ≠ b := fun e => by rw [← e, xO_at] at hf; cases hf
  have e1 : jset (wX κ G (xO T q (rawO 24))) (100 + b) (b, obE κ G (mkA 31 N)) = _ := wX_sO κ G _ b (mkA 31 N)
  refine j_world (w' := wX κ G (xO (xO T q (rawO 24)) b (mkA 31 N))) (by rw [← e1]; rfl) ?_
  have he : wX κ G (xO (xO T q (rawO 24)) b (mkA 31 N)) (100 + q) = some (q, .inr (oCi 24, rawF 24)) := by rw [wX_ob κ G _ (x := rawO 24) (by rw [xO_ne _ _ hne, xO_at]), obE_raw]
  refine j_putF C hnm in_X24 tyX24 tyX24_ok nmX24 (100 + q) he (hκ.cl rfl) 0 (by decide) q1460 rfl rfl rfl rfl (v := .ref b) rfl rfl (by decide) dX24_init_8 ?_
  have e2 : jset (wX κ G (xO (xO T q (rawO 24)) b (mkA 31 N))) (100 + q) (q, obE κ G (mkO 24 [] [some b])) = _ := wX_sO κ G _ q (mkO 24 [] [some b])
  rw [obE_o (t := 24) rfl (by decide)] at e2
  refine j_world e2 ?_
  exact j_vret C dX24_init_11 (Nat.le_of_ble_eq_true rfl) (by show 0 + N ≤ 64; omega) ⟨b, hf, rfl, rfl⟩
theorem mt_n25 {κ : jK} (hκ : jX κ) (G : Nat → Nat) (T : XS) (q : Nat) {p1 : Int32} {N : Nat} (h0 : ¬ p1 < 0) (hN : p1.toNatClampNeg = N) (hle : N ≤ 60) : jM κ yX25_init (ws_ yX25_init cX25_init 2 none) 4 1 64 [.ref q, .int p1] (wX κ G (xO T q (rawO 25))) (fun u w' => ∃ b, (xO T q (rawO 25)).2.2.2 b = none ∧ u = none ∧ w' = wX κ G (xO (xO (xO T q (rawO 25)) b (mkA 32 N)) q (mkO 25 [] [some b]))) := by
  refine jM.of (by decide) rfl (Nat.le_of_ble_eq_true rfl) fun Γ C hnm => ?_
  show J κ Γ (4, 1, 64, _) 2 (wX κ G (xO T q (rawO 25))) 0 0 0 [some (.ref q), some (.int p1)] []
  refine j_aload_n C dX25_init_0 rfl rfl ?_
  refine j_callIN hκ C (As := []) (mt_iN22 hκ _ _) q1449 q150 q1470 q1448 rfl (N := 0) ⟨by decide, by decide, by decide +kernel⟩ rfl dX25_init_1 ⟨Nat.le_of_ble_eq_true rfl, by decide, Nat.le_of_ble_eq_true rfl, Nat.le_of_ble_eq_true rfl, Nat.le_of_ble_eq_true rfl⟩ rfl (fun u w1 hp => ?_)
  obtain ⟨rfl, rfl⟩ := hp
  refine j_aload_n C dX25_init_4 rfl rfl ?_
  refine j_iload_n C dX25_init_5 rfl rfl ?_
  refine j_newarr C (ty := .int) rfl q182 (t0 := 0) (hκ.ty 0 rfl) (fun _ h => by cases h) (a0 := (N, .inl fun _ => 0)) (fun cA => ?_) h0 hN (by show N * _ ≤ _; simp only [componentBytes]; omega) (Nat.le_of_ble_eq_true rfl) (by show 0 + N ≤ 64; omega) (fun b => 100 + b) dX25_init_6 (fun b hb => ?_)
  · rfl
  have hf := wX_new hb
  have hne : q ≠ b := fun e => by rw [← e, xO_at] at hf; cases hf
  have e1 : jset (wX κ G (xO T q (rawO 25))) (100 + b) (b, obE κ G (mkA 32 N)) = _ := wX_sO κ G _ b (mkA 32 N)
  refine j_world (w' := wX κ G (xO (xO T q (rawO 25)) b (mkA 32 N))) (by rw [← e1]; rfl) ?_
  have he : wX κ G (xO (xO T q (rawO 25)) b (mkA 32 N)) (100 + q) = some (q, .inr (oCi 25, rawF 25)) := by rw [wX_ob κ G _ (x := rawO 25) (by rw [xO_ne _ _ hne, xO_at]), obE_raw]
  refine j_putF C hnm in_X25 tyX25 tyX25_ok nmX25 (100 + q) he (hκ.cl rfl) 0 (by decide) q1471 rfl rfl rfl rfl (v := .ref b) rfl rfl (by decide) dX25_init_8 ?_
  have e2 : jset (wX κ G (xO (xO T q (rawO 25)) b (mkA 32 N))) (100 + q) (q, obE κ G (mkO 25 [] [some b])) = _ := wX_sO κ G _ q (mkO 25 [] [some b])
  rw [obE_o (t := 25) rfl (by decide)] at e2
  refine j_world e2 ?_
  exact j_vret C dX25_init_11 (Nat.le_of_ble_eq_true rfl) (by show 0 + N ≤ 64; omega) ⟨b, hf, rfl, rfl⟩
theorem mt_n26 {κ : jK} (hκ : jX κ) (G : Nat → Nat) (T : XS) (q : Nat) {p1 : Int32} {N : Nat} (h0 : ¬ p1 < 0) (hN : p1.toNatClampNeg = N) (hle : N ≤ 60) : jM κ yX26_init (ws_ yX26_init cX26_init 2 none) 4 1 64 [.ref q, .int p1] (wX κ G (xO T q (rawO 26))) (fun u w' => ∃ b, (xO T q (rawO 26)).2.2.2 b = none ∧ u = none ∧ w' = wX κ G (xO (xO (xO T q (rawO 26)) b (mkA 33 N)) q (mkO 26 [] [some b]))) := by
  refine jM.of (by decide) rfl (Nat.le_of_ble_eq_true rfl) fun Γ C hnm => ?_
  show J κ Γ (4, 1, 64, _) 2 (wX κ G (xO T q (rawO 26))) 0 0 0 [some (.ref q), some (.int p1)] []
  refine j_aload_n C dX26_init_0 rfl rfl ?_
  refine j_callIN hκ C (As := []) (mt_iN22 hκ _ _) q1449 q150 q1480 q1448 rfl (N := 0) ⟨by decide, by decide, by decide +kernel⟩ rfl dX26_init_1 ⟨Nat.le_of_ble_eq_true rfl, by decide, Nat.le_of_ble_eq_true rfl, Nat.le_of_ble_eq_true rfl, Nat.le_of_ble_eq_true rfl⟩ rfl (fun u w1 hp => ?_)
  obtain ⟨rfl, rfl⟩ := hp
  refine j_aload_n C dX26_init_4 rfl rfl ?_
  refine j_iload_n C dX26_init_5 rfl rfl ?_
  refine j_newarr C (ty := .long) rfl q1485 (t0 := 1) (hκ.ty 1 rfl) (fun _ h => by cases h) (a0 := (N, .inr (.inl fun _ => 0))) (fun cA => ?_) h0 hN (by show N * _ ≤ _; simp only [componentBytes]; omega) (Nat.le_of_ble_eq_true rfl) (by show 0 + N ≤ 64; omega) (fun b => 100 + b) dX26_init_6 (fun b hb => ?_)
  · rfl
  have hf := wX_new hb
  have hne : q ≠ b := fun e => by rw [← e, xO_at] at hf; cases hf
  have e1 : jset (wX κ G (xO T q (rawO 26))) (100 + b) (b, obE κ G (mkA 33 N)) = _ := wX_sO κ G _ b (mkA 33 N)
  refine j_world (w' := wX κ G (xO (xO T q (rawO 26)) b (mkA 33 N))) (by rw [← e1]; rfl) ?_
  have he : wX κ G (xO (xO T q (rawO 26)) b (mkA 33 N)) (100 + q) = some (q, .inr (oCi 26, rawF 26)) := by rw [wX_ob κ G _ (x := rawO 26) (by rw [xO_ne _ _ hne, xO_at]), obE_raw]
  refine j_putF C hnm in_X26 tyX26 tyX26_ok nmX26 (100 + q) he (hκ.cl rfl) 0 (by decide) q1481 rfl rfl rfl rfl (v := .ref b) rfl rfl (by decide) dX26_init_8 ?_
  have e2 : jset (wX κ G (xO (xO T q (rawO 26)) b (mkA 33 N))) (100 + q) (q, obE κ G (mkO 26 [] [some b])) = _ := wX_sO κ G _ q (mkO 26 [] [some b])
  rw [obE_o (t := 26) rfl (by decide)] at e2
  refine j_world e2 ?_
  exact j_vret C dX26_init_11 (Nat.le_of_ble_eq_true rfl) (by show 0 + N ≤ 64; omega) ⟨b, hf, rfl, rfl⟩
theorem mt_n27 {κ : jK} (hκ : jX κ) (G : Nat → Nat) (T : XS) (q : Nat) {p1 : Int32} {N : Nat} (h0 : ¬ p1 < 0) (hN : p1.toNatClampNeg = N) (hle : N ≤ 60) : jM κ yX27_init (ws_ yX27_init cX27_init 2 none) 4 1 64 [.ref q, .int p1] (wX κ G (xO T q (rawO 27))) (fun u w' => ∃ b, (xO T q (rawO 27)).2.2.2 b = none ∧ u = none ∧ w' = wX κ G (xO (xO (xO T q (rawO 27)) b (mkA 34 N)) q (mkO 27 [] [some b]))) := by
  refine jM.of (by decide) rfl (Nat.le_of_ble_eq_true rfl) fun Γ C hnm => ?_
  show J κ Γ (4, 1, 64, _) 2 (wX κ G (xO T q (rawO 27))) 0 0 0 [some (.ref q), some (.int p1)] []
  refine j_aload_n C dX27_init_0 rfl rfl ?_
  refine j_callIN hκ C (As := []) (mt_iN22 hκ _ _) q1449 q150 q1491 q1448 rfl (N := 0) ⟨by decide, by decide, by decide +kernel⟩ rfl dX27_init_1 ⟨Nat.le_of_ble_eq_true rfl, by decide, Nat.le_of_ble_eq_true rfl, Nat.le_of_ble_eq_true rfl, Nat.le_of_ble_eq_true rfl⟩ rfl (fun u w1 hp => ?_)
  obtain ⟨rfl, rfl⟩ := hp
  refine j_aload_n C dX27_init_4 rfl rfl ?_
  refine j_iload_n C dX27_init_5 rfl rfl ?_
  refine j_newarr C (ty := .boolean) rfl q337 (t0 := 2) (hκ.ty 2 rfl) (fun _ h => by cases h) (a0 := (N, .inl fun _ => 0)) (fun cA => ?_) h0 hN (by show N * _ ≤ _; simp only [componentBytes]; omega) (Nat.le_of_ble_eq_true rfl) (by show 0 + N ≤ 64; omega) (fun b => 100 + b) dX27_init_6 (fun b hb => ?_)
  · rfl
  have hf := wX_new hb
  have hne : q ≠ b := fun e => by rw [← e, xO_at] at hf; cases hf
  have e1 : jset (wX κ G (xO T q (rawO 27))) (100 + b) (b, obE κ G (mkA 34 N)) = _ := wX_sO κ G _ b (mkA 34 N)
  refine j_world (w' := wX κ G (xO (xO T q (rawO 27)) b (mkA 34 N))) (by rw [← e1]; rfl) ?_
  have he : wX κ G (xO (xO T q (rawO 27)) b (mkA 34 N)) (100 + q) = some (q, .inr (oCi 27, rawF 27)) := by rw [wX_ob κ G _ (x := rawO 27) (by rw [xO_ne _ _ hne, xO_at]), obE_raw]
  refine j_putF C hnm in_X27 tyX27 tyX27_ok nmX27 (100 + q) he (hκ.cl rfl) 0 (by decide) q1492 rfl rfl rfl rfl (v := .ref b) rfl rfl (by decide) dX27_init_8 ?_
  have e2 : jset (wX κ G (xO (xO T q (rawO 27)) b (mkA 34 N))) (100 + q) (q, obE κ G (mkO 27 [] [some b])) = _ := wX_sO κ G _ q (mkO 27 [] [some b])
  rw [obE_o (t := 27) rfl (by decide)] at e2
  refine j_world e2 ?_
  exact j_vret C dX27_init_11 (Nat.le_of_ble_eq_true rfl) (by show 0 + N ≤ 64; omega) ⟨b, hf, rfl, rfl⟩
