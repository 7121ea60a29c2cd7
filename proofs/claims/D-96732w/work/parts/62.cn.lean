/-! CONSTRUCTORS over the component's world. Own text, printed by ctor.py. -/
set_option maxRecDepth 100000
theorem mt_n3 {κ : jK} (hκ : jX κ) (G : Nat → Nat) (T : XS) (q : Nat) (p1 : Int32) (p2 : Int32) : jM κ yX3_init (ws_ yX3_init cX3_init 3 none) 1 0 0 [.ref q, .int p1, .int p2] (wX κ G (xO T q (rawO 3))) (fun u w' => u = none ∧ w' = wX κ G (xO T q (mkO 3 [p1, p2, 1, 60] []))) := by
  rw [wX_raw, wX_mkO κ G T q 3 (by decide)]
  exact mt_i3_3 hκ (wX κ G T) (100 + q) q p1 p2 _ _ _ _ _
theorem mt_n4 {κ : jK} (hκ : jX κ) (G : Nat → Nat) (T : XS) (q : Nat) (p1 : Int32) (p2 : Int32) (p3 : Int32) (p4 : Int32) : jM κ yX4_init (ws_ yX4_init cX4_init 5 none) 1 0 0 [.ref q, .int p1, .int p2, .int p3, .int p4] (wX κ G (xO T q (rawO 4))) (fun u w' => u = none ∧ w' = wX κ G (xO T q (mkO 4 [p1, p2, p3, p4] []))) := by
  rw [wX_raw, wX_mkO κ G T q 4 (by decide)]
  exact mt_i4_4 hκ (wX κ G T) (100 + q) q p1 p2 p3 p4 _ _ _ _
theorem mt_n5 {κ : jK} (hκ : jX κ) (G : Nat → Nat) (T : XS) (q : Nat) : jM κ yX5_init (ws_ yX5_init cX5_init 2 none) 1 0 0 [.ref q, .ref (G 0)] (wX κ G (xO T q (rawO 5))) (fun u w' => u = none ∧ w' = wX κ G (xO T q (mkO 5 [0, (-1)] []))) := by
  rw [wX_raw, wX_mkO κ G T q 5 (by decide)]
  exact mt_i5_5 hκ (wX κ G T) (100 + q) q (G 0) _ _ _ _
theorem mt_n6 {κ : jK} (hκ : jX κ) (G : Nat → Nat) (T : XS) (q : Nat) : jM κ yX6_init (ws_ yX6_init cX6_init 1 none) 1 0 0 [.ref q] (wX κ G (xO T q (rawO 6))) (fun u w' => u = none ∧ w' = wX κ G (xO T q (mkO 6 [] []))) := by
  rw [wX_raw, wX_mkO κ G T q 6 (by decide)]
  exact mt_i6_6 hκ (wX κ G T) (100 + q) q  _ _ _
theorem mt_n8 {κ : jK} (hκ : jX κ) (G : Nat → Nat) (T : XS) (q : Nat) (p1 : Int32) : jM κ yX8_init (ws_ yX8_init cX8_init 2 none) 2 0 0 [.ref q, .int p1] (wX κ G (xO T q (rawO 8))) (fun u w' => u = none ∧ w' = wX κ G (xO T q (mkO 8 [p1] []))) := by
  rw [wX_raw, wX_mkO κ G T q 8 (by decide)]
  exact mt_i8_8 hκ (wX κ G T) (100 + q) q p1 _
theorem mt_n9 {κ : jK} (hκ : jX κ) (G : Nat → Nat) (T : XS) (q : Nat) (p1 : Option Nat) : jM κ yX9_init (ws_ yX9_init cX9_init 2 none) 2 0 0 [.ref q, va_rf p1] (wX κ G (xO T q (rawO 9))) (fun u w' => u = none ∧ w' = wX κ G (xO T q (mkO 9 [] [p1]))) := by
  rw [wX_raw, wX_mkO κ G T q 9 (by decide)]
  exact mt_i9_9 hκ (wX κ G T) (100 + q) q p1 _
theorem mt_n10 {κ : jK} (hκ : jX κ) (G : Nat → Nat) (T : XS) (q : Nat) (p1 : Option Nat) : jM κ yX10_init (ws_ yX10_init cX10_init 2 none) 2 0 0 [.ref q, va_rf p1] (wX κ G (xO T q (rawO 10))) (fun u w' => u = none ∧ w' = wX κ G (xO T q (mkO 10 [] [p1]))) := by
  rw [wX_raw, wX_mkO κ G T q 10 (by decide)]
  exact mt_i10_10 hκ (wX κ G T) (100 + q) q p1 _
theorem mt_n11 {κ : jK} (hκ : jX κ) (G : Nat → Nat) (T : XS) (q : Nat) (p1 : Int32) : jM κ yX11_init (ws_ yX11_init cX11_init 2 none) 2 0 0 [.ref q, .int p1] (wX κ G (xO T q (rawO 11))) (fun u w' => u = none ∧ w' = wX κ G (xO T q (mkO 11 [p1] []))) := by
  rw [wX_raw, wX_mkO κ G T q 11 (by decide)]
  exact mt_i11_11 hκ (wX κ G T) (100 + q) q p1 _
theorem mt_n12 {κ : jK} (hκ : jX κ) (G : Nat → Nat) (T : XS) (q : Nat) (p1 : Int32) (p2 : Option Nat) (p3 : Option Nat) : jM κ yX12_init (ws_ yX12_init cX12_init 4 none) 2 0 0 [.ref q, .int p1, va_rf p2, va_rf p3] (wX κ G (xO T q (rawO 12))) (fun u w' => u = none ∧ w' = wX κ G (xO T q (mkO 12 [p1] [none, p2, p3]))) := by
  rw [wX_raw, wX_mkO κ G T q 12 (by decide)]
  exact mt_i12_12 hκ (wX κ G T) (100 + q) q p1 p2 p3 _ _ _
theorem mt_n14 {κ : jK} (hκ : jX κ) (G : Nat → Nat) (T : XS) (q : Nat) (p2 : Int32) : jM κ yX14_init (ws_ yX14_init cX14_init 3 none) 2 0 0 [.ref q, .ref (G 0), .int p2] (wX κ G (xO T q (rawO 14))) (fun u w' => u = none ∧ w' = wX κ G (xO T q (mkO 14 [p2] []))) := by
  rw [wX_raw, wX_mkO κ G T q 14 (by decide)]
  exact mt_i14_14 hκ (wX κ G T) (100 + q) q (G 0) p2 _ _
theorem mt_n15 {κ : jK} (hκ : jX κ) (G : Nat → Nat) (T : XS) (q : Nat) (p2 : Int32) : jM κ yX15_init (ws_ yX15_init cX15_init 3 none) 3 0 0 [.ref q, .ref (G 0), .int p2] (wX κ G (xO T q (rawO 15))) (fun u w' => u = none ∧ w' = wX κ G (xO T q (mkO 15 [p2] []))) := by
  rw [wX_raw, wX_mkO κ G T q 15 (by decide)]
  exact mt_i15_15 hκ (wX κ G T) (100 + q) q (G 0) p2 _ _ _
theorem mt_n16 {κ : jK} (hκ : jX κ) (G : Nat → Nat) (T : XS) (q : Nat) (p2 : Int32) : jM κ yX16_init (ws_ yX16_init cX16_init 3 none) 3 0 0 [.ref q, .ref (G 0), .int p2] (wX κ G (xO T q (rawO 16))) (fun u w' => u = none ∧ w' = wX κ G (xO T q (mkO 16 [p2] []))) := by
  rw [wX_raw, wX_mkO κ G T q 16 (by decide)]
  exact mt_i16_16 hκ (wX κ G T) (100 + q) q (G 0) p2 _ _ _
theorem mt_n17 {κ : jK} (hκ : jX κ) (G : Nat → Nat) (T : XS) (q : Nat) (p2 : Int32) : jM κ yX17_init (ws_ yX17_init cX17_init 3 none) 4 0 0 [.ref q, .ref (G 0), .int p2] (wX κ G (xO T q (rawO 17))) (fun u w' => u = none ∧ w' = wX κ G (xO T q (mkO 17 [p2] []))) := by
  rw [wX_raw, wX_mkO κ G T q 17 (by decide)]
  exact mt_i17_17 hκ (wX κ G T) (100 + q) q (G 0) p2 _ _ _ _
theorem mt_n18 {κ : jK} (hκ : jX κ) (G : Nat → Nat) (T : XS) (q : Nat) (p2 : Int32) : jM κ yX18_init (ws_ yX18_init cX18_init 3 none) 4 0 0 [.ref q, .ref (G 0), .int p2] (wX κ G (xO T q (rawO 18))) (fun u w' => u = none ∧ w' = wX κ G (xO T q (mkO 18 [p2] []))) := by
  rw [wX_raw, wX_mkO κ G T q 18 (by decide)]
  exact mt_i18_18 hκ (wX κ G T) (100 + q) q (G 0) p2 _ _ _ _
theorem mt_n19 {κ : jK} (hκ : jX κ) (G : Nat → Nat) (T : XS) (q : Nat) (p2 : Int32) : jM κ yX19_init (ws_ yX19_init cX19_init 3 none) 5 0 0 [.ref q, .ref (G 0), .int p2] (wX κ G (xO T q (rawO 19))) (fun u w' => u = none ∧ w' = wX κ G (xO T q (mkO 19 [p2] []))) := by
  rw [wX_raw, wX_mkO κ G T q 19 (by decide)]
  exact mt_i19_19 hκ (wX κ G T) (100 + q) q (G 0) p2 _ _ _ _ _
theorem mt_n20 {κ : jK} (hκ : jX κ) (G : Nat → Nat) (T : XS) (q : Nat) (p2 : Int32) : jM κ yX20_init (ws_ yX20_init cX20_init 3 none) 3 0 0 [.ref q, .ref (G 0), .int p2] (wX κ G (xO T q (rawO 20))) (fun u w' => u = none ∧ w' = wX κ G (xO T q (mkO 20 [p2] []))) := by
  rw [wX_raw, wX_mkO κ G T q 20 (by decide)]
  exact mt_i20_20 hκ (wX κ G T) (100 + q) q (G 0) p2 _ _ _
theorem mt_n21 {κ : jK} (hκ : jX κ) (G : Nat → Nat) (T : XS) (q : Nat) (p2 : Int32) : jM κ yX21_init (ws_ yX21_init cX21_init 3 none) 5 0 0 [.ref q, .ref (G 0), .int p2] (wX κ G (xO T q (rawO 21))) (fun u w' => u = none ∧ w' = wX κ G (xO T q (mkO 21 [p2] []))) := by
  rw [wX_raw, wX_mkO κ G T q 21 (by decide)]
  exact mt_i21_21 hκ (wX κ G T) (100 + q) q (G 0) p2 _ _ _ _ _
