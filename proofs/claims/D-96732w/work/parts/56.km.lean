set_option maxRecDepth 100000
/-! turnsIn -/
def k14_14_turnsIn (T : XS) (a0 : Nat) (p1 : Int32) : Option (Int32 × XS) :=
  (getO T a0 14).bind fun q1 =>
  (x_ran T 1).bind fun T3 =>
  (getO T3 a0 14).bind fun q5 =>
  some ((p1 + (q5.2.1 0)), T3)
theorem mt_k14_14_turnsIn {κ : jK} (hκ : jX κ) (G : Nat → Nat) {T : XS} {a0 : Nat} {p1 : Int32} {v : Int32} {T' : XS} (h : k14_14_turnsIn T a0 p1 = some (v, T')) : jM κ yX14_turnsIn (ws_ yX14_turnsIn cX14_turnsIn 2 (some .int)) 1 0 0 [.ref a0, .int p1] (wX κ G T) (fun u w' => u = some (.int v) ∧ w' = wX κ G T') := by
  rw [k14_14_turnsIn] at h
  refine jM.of (by decide) rfl (Nat.le_of_ble_eq_true rfl) fun Γ C _ => ?_
  show J κ Γ (1, 0, 0, (fun u w' => u = some (.int v) ∧ w' = wX κ G T')) 2 (wX κ G T) 0 0 0 [some (.ref a0), some (.int p1)] []
  refine j_aload_n C dX14_turnsIn_0 rfl rfl ?_
  obtain ⟨q1, g2, h⟩ := ob h
  refine jx_gt14 hκ C g2 1 (by decide) rfl q1176 dX14_turnsIn_1 ?_
  refine j_iconst C (v := 1) dX14_turnsIn_4 rfl ?_
  obtain ⟨T3, e4, h⟩ := ob h
  refine jx_ran hκ C e4 q1292 dX14_turnsIn_5 (jfit.of (Nat.le_of_ble_eq_true rfl) (by decide) (Nat.le_of_ble_eq_true rfl) (Nat.le_of_ble_eq_true rfl) (Nat.le_of_ble_eq_true rfl)) ?_
  refine j_iload_n C dX14_turnsIn_8 rfl rfl ?_
  refine j_aload_n C dX14_turnsIn_9 rfl rfl ?_
  obtain ⟨q5, g6, h⟩ := ob h
  refine jx_gi14 hκ C g6 0 (by decide) rfl q1175 dX14_turnsIn_10 ?_
  refine j_iadd C dX14_turnsIn_13 ?_
  obtain ⟨rfl, rfl⟩ := sp2 h
  exact j_iret C dX14_turnsIn_14 (Nat.le_of_ble_eq_true rfl) (Nat.le_of_ble_eq_true rfl) ⟨rfl, rfl⟩
/-! sees -/
def k14_14_sees (T : XS) (a0 : Nat) (p1 : Int32) : Option (Int32 × XS) :=
  (getO T a0 14).bind fun q1 =>
  (x_ran T 10).bind fun T3 =>
  (getO T3 a0 14).bind fun q5 =>
  b2 (k14_14_turnsIn T3 a0 p1) fun v8 T9 =>
  some ((v8 * 2), T9)
theorem mt_k14_14_sees {κ : jK} (hκ : jX κ) (G : Nat → Nat) {T : XS} {a0 : Nat} {p1 : Int32} {v : Int32} {T' : XS} (h : k14_14_sees T a0 p1 = some (v, T')) : jM κ yX14_sees (ws_ yX14_sees cX14_sees 2 (some .int)) 2 0 0 [.ref a0, .int p1] (wX κ G T) (fun u w' => u = some (.int v) ∧ w' = wX κ G T') := by
  rw [k14_14_sees] at h
  refine jM.of (by decide) rfl (Nat.le_of_ble_eq_true rfl) fun Γ C _ => ?_
  show J κ Γ (2, 0, 0, (fun u w' => u = some (.int v) ∧ w' = wX κ G T')) 2 (wX κ G T) 0 0 0 [some (.ref a0), some (.int p1)] []
  refine j_aload_n C dX14_sees_0 rfl rfl ?_
  obtain ⟨q1, g2, h⟩ := ob h
  refine jx_gt14 hκ C g2 1 (by decide) rfl q1176 dX14_sees_1 ?_
  refine j_bipush C (v := 10) dX14_sees_4 rfl ?_
  obtain ⟨T3, e4, h⟩ := ob h
  refine jx_ran hκ C e4 q1292 dX14_sees_6 (jfit.of (Nat.le_of_ble_eq_true rfl) (by decide) (Nat.le_of_ble_eq_true rfl) (Nat.le_of_ble_eq_true rfl) (Nat.le_of_ble_eq_true rfl)) ?_
  refine j_aload_n C dX14_sees_9 rfl rfl ?_
  refine j_iload_n C dX14_sees_10 rfl rfl ?_
  obtain ⟨q5, g6, h⟩ := ob h
  obtain ⟨v8, T9, e7, h⟩ := ob2 h
  refine jx_U (As := [.int p1]) hκ C (mt_k14_14_turnsIn hκ G e7) ⟨q1346, q2232, q2237, q1290, q141, q1291, (Or.inr ⟨q1290, _, _, _, q1291⟩), by decide, by decide⟩ (N := 1) (by decide +kernel) rfl g6 (by decide) rfl rfl dX14_sees_11 (jfit.of (Nat.le_of_ble_eq_true rfl) (by decide) (Nat.le_of_ble_eq_true rfl) (Nat.le_of_ble_eq_true rfl) (Nat.le_of_ble_eq_true rfl)) rfl ?_
  refine j_iconst C (v := 2) dX14_sees_14 rfl ?_
  refine j_imul C dX14_sees_15 ?_
  obtain ⟨rfl, rfl⟩ := sp2 h
  exact j_iret C dX14_sees_16 (Nat.le_of_ble_eq_true rfl) (Nat.le_of_ble_eq_true rfl) ⟨rfl, rfl⟩
/-! fears -/
def k14_14_fears (T : XS) (a0 : Nat) (p1 : Int32) : Option (Int32 × XS) :=
  (getO T a0 14).bind fun q1 =>
  (x_ran T 11).bind fun T3 =>
  (getO T3 a0 14).bind fun q5 =>
  some ((p1 ^^^ (q5.2.1 0)), T3)
theorem mt_k14_14_fears {κ : jK} (hκ : jX κ) (G : Nat → Nat) {T : XS} {a0 : Nat} {p1 : Int32} {v : Int32} {T' : XS} (h : k14_14_fears T a0 p1 = some (v, T')) : jM κ yX14_fears (ws_ yX14_fears cX14_fears 2 (some .int)) 1 0 0 [.ref a0, .int p1] (wX κ G T) (fun u w' => u = some (.int v) ∧ w' = wX κ G T') := by
  rw [k14_14_fears] at h
  refine jM.of (by decide) rfl (Nat.le_of_ble_eq_true rfl) fun Γ C _ => ?_
  show J κ Γ (1, 0, 0, (fun u w' => u = some (.int v) ∧ w' = wX κ G T')) 2 (wX κ G T) 0 0 0 [some (.ref a0), some (.int p1)] []
  refine j_aload_n C dX14_fears_0 rfl rfl ?_
  obtain ⟨q1, g2, h⟩ := ob h
  refine jx_gt14 hκ C g2 1 (by decide) rfl q1176 dX14_fears_1 ?_
  refine j_bipush C (v := 11) dX14_fears_4 rfl ?_
  obtain ⟨T3, e4, h⟩ := ob h
  refine jx_ran hκ C e4 q1292 dX14_fears_6 (jfit.of (Nat.le_of_ble_eq_true rfl) (by decide) (Nat.le_of_ble_eq_true rfl) (Nat.le_of_ble_eq_true rfl) (Nat.le_of_ble_eq_true rfl)) ?_
  refine j_iload_n C dX14_fears_9 rfl rfl ?_
  refine j_aload_n C dX14_fears_10 rfl rfl ?_
  obtain ⟨q5, g6, h⟩ := ob h
  refine jx_gi14 hκ C g6 0 (by decide) rfl q1175 dX14_fears_11 ?_
  refine j_ixor C dX14_fears_14 ?_
  obtain ⟨rfl, rfl⟩ := sp2 h
  exact j_iret C dX14_fears_15 (Nat.le_of_ble_eq_true rfl) (Nat.le_of_ble_eq_true rfl) ⟨rfl, rfl⟩
/-! tells -/
def k14_14_tells (T : XS) (a0 : Nat) (p1 : Int32) : Option (Int32 × XS) :=
  (getO T a0 14).bind fun q1 =>
  (x_ran T 2).bind fun T3 =>
  (getO T3 a0 14).bind fun q5 =>
  b2 (k14_14_sees T3 a0 p1) fun v8 T9 =>
  (getO T9 a0 14).bind fun q10 =>
  b2 (k14_14_fears T9 a0 1) fun v13 T14 =>
  some ((v8 - v13), T14)
theorem mt_k14_14_tells {κ : jK} (hκ : jX κ) (G : Nat → Nat) {T : XS} {a0 : Nat} {p1 : Int32} {v : Int32} {T' : XS} (h : k14_14_tells T a0 p1 = some (v, T')) : jM κ yX14_tells (ws_ yX14_tells cX14_tells 3 (some .int)) 3 0 0 [.ref a0, .int p1] (wX κ G T) (fun u w' => u = some (.int v) ∧ w' = wX κ G T') := by
  rw [k14_14_tells] at h
  refine jM.of (by decide) rfl (Nat.le_of_ble_eq_true rfl) fun Γ C _ => ?_
  show J κ Γ (3, 0, 0, (fun u w' => u = some (.int v) ∧ w' = wX κ G T')) 3 (wX κ G T) 0 0 0 [some (.ref a0), some (.int p1), none] []
  refine j_aload_n C dX14_tells_0 rfl rfl ?_
  obtain ⟨q1, g2, h⟩ := ob h
  refine jx_gt14 hκ C g2 1 (by decide) rfl q1176 dX14_tells_1 ?_
  refine j_iconst C (v := 2) dX14_tells_4 rfl ?_
  obtain ⟨T3, e4, h⟩ := ob h
  refine jx_ran hκ C e4 q1292 dX14_tells_5 (jfit.of (Nat.le_of_ble_eq_true rfl) (by decide) (Nat.le_of_ble_eq_true rfl) (Nat.le_of_ble_eq_true rfl) (Nat.le_of_ble_eq_true rfl)) ?_
  refine j_aload_n C dX14_tells_8 rfl rfl ?_
  refine j_iload_n C dX14_tells_9 rfl rfl ?_
  obtain ⟨q5, g6, h⟩ := ob h
  obtain ⟨v8, T9, e7, h⟩ := ob2 h
  refine jx_U (As := [.int p1]) hκ C (mt_k14_14_sees hκ G e7) ⟨q1330, q1333, q1332, q1331, q141, q1345, (Or.inl q1355), by decide, by decide⟩ (N := 1) (by decide +kernel) rfl g6 (by decide) rfl rfl dX14_tells_10 (jfit.of (Nat.le_of_ble_eq_true rfl) (by decide) (Nat.le_of_ble_eq_true rfl) (Nat.le_of_ble_eq_true rfl) (Nat.le_of_ble_eq_true rfl)) rfl ?_
  refine j_istore_n C dX14_tells_13 rfl (by decide) rfl ?_
  refine j_iload_n C dX14_tells_14 rfl rfl ?_
  refine j_aload_n C dX14_tells_15 rfl rfl ?_
  refine j_iconst C (v := 1) dX14_tells_16 rfl ?_
  obtain ⟨q10, g11, h⟩ := ob h
  obtain ⟨v13, T14, e12, h⟩ := ob2 h
  refine jx_U (As := [.int 1]) hκ C (mt_k14_14_fears hκ G e12) ⟨q1374, q2242, q2246, q1366, q141, q1367, (Or.inl q1365), by decide, by decide⟩ (N := 1) (by decide +kernel) rfl g11 (by decide) rfl rfl dX14_tells_17 (jfit.of (Nat.le_of_ble_eq_true rfl) (by decide) (Nat.le_of_ble_eq_true rfl) (Nat.le_of_ble_eq_true rfl) (Nat.le_of_ble_eq_true rfl)) rfl ?_
  refine j_isub C dX14_tells_20 ?_
  obtain ⟨rfl, rfl⟩ := sp2 h
  exact j_iret C dX14_tells_21 (Nat.le_of_ble_eq_true rfl) (Nat.le_of_ble_eq_true rfl) ⟨rfl, rfl⟩
/-! kind -/
def k14_14_kind (T : XS) (a0 : Nat) : Option Int32 :=
  some 0
theorem mt_k14_14_kind {κ : jK} (hκ : jX κ) (G : Nat → Nat) {T : XS} {a0 : Nat} {v : Int32} (h : k14_14_kind T a0 = some v) : jM κ yX14_kind (ws_ yX14_kind cX14_kind 1 (some .int)) 1 0 0 [.ref a0] (wX κ G T) (fun u w' => u = some (.int v) ∧ w' = wX κ G T) := by
  rw [k14_14_kind] at h
  refine jM.of (by decide) rfl (Nat.le_of_ble_eq_true rfl) fun Γ C _ => ?_
  show J κ Γ (1, 0, 0, (fun u w' => u = some (.int v) ∧ w' = wX κ G T)) 1 (wX κ G T) 0 0 0 [some (.ref a0)] []
  refine j_iconst C (v := 0) dX14_kind_0 rfl ?_
  obtain rfl := sp1 h
  exact j_iret C dX14_kind_1 (Nat.le_of_ble_eq_true rfl) (Nat.le_of_ble_eq_true rfl) ⟨rfl, rfl⟩
/-! isUnder -/
def k14_14_isUnder (T : XS) (a0 : Nat) (p1 : Int32) : Option Bool :=
  (if p1 = 0 then
  some true
  else
  (getO T a0 14).bind fun q1 =>
  (k14_14_kind T a0).bind fun v4 =>
  (if p1 = v4 then
  some true
  else
  some false))
theorem mt_k14_14_isUnder {κ : jK} (hκ : jX κ) (G : Nat → Nat) {T : XS} {a0 : Nat} {p1 : Int32} {v : Bool} (h : k14_14_isUnder T a0 p1 = some v) : jM κ yX14_isUnder (ws_ yX14_isUnder cX14_isUnder 2 (some .boolean)) 2 0 0 [.ref a0, .int p1] (wX κ G T) (fun u w' => u = some (.int (b2i v)) ∧ w' = wX κ G T) := by
  rw [k14_14_isUnder] at h
  refine jM.of (by decide) rfl (Nat.le_of_ble_eq_true rfl) fun Γ C _ => ?_
  show J κ Γ (2, 0, 0, (fun u w' => u = some (.int (b2i v)) ∧ w' = wX κ G T)) 2 (wX κ G T) 0 0 0 [some (.ref a0), some (.int p1)] []
  refine j_iload_n C dX14_isUnder_0 rfl rfl ?_
  refine j_if_eq C dX14_isUnder_1 (tgt := 12) (by decide) (fun c => ?_) (fun c => ?_)
  · replace h := ip c h
    refine j_iconst C (v := 1) dX14_isUnder_12 rfl ?_
    refine j_goto C dX14_isUnder_13 (tgt := 17) (by decide) ?_
    obtain rfl := sp1 h
    exact j_zret C rfl dX14_isUnder_17 (Nat.le_of_ble_eq_true rfl) (Nat.le_of_ble_eq_true rfl) ⟨rfl, rfl⟩
  replace h := im c h
  refine j_iload_n C dX14_isUnder_4 rfl rfl ?_
  refine j_aload_n C dX14_isUnder_5 rfl rfl ?_
  obtain ⟨q1, g2, h⟩ := ob h
  obtain ⟨v4, e3, h⟩ := ob h
  refine jx_U (As := []) hκ C (mt_k14_14_kind hκ G e3) ⟨q1585, q1588, q1587, q1586, q141, q1610, (Or.inr ⟨q1586, _, _, _, q1610⟩), by decide, by decide⟩ (N := 0) (by decide +kernel) rfl g2 (by decide) rfl rfl dX14_isUnder_6 (jfit.of (Nat.le_of_ble_eq_true rfl) (by decide) (Nat.le_of_ble_eq_true rfl) (Nat.le_of_ble_eq_true rfl) (Nat.le_of_ble_eq_true rfl)) rfl ?_
  refine j_icmp_ne C dX14_isUnder_9 (tgt := 16) (by decide) (fun c => ?_) (fun c => ?_)
  · replace h := im c h
    refine j_iconst C (v := 0) dX14_isUnder_16 rfl ?_
    obtain rfl := sp1 h
    exact j_zret C rfl dX14_isUnder_17 (Nat.le_of_ble_eq_true rfl) (Nat.le_of_ble_eq_true rfl) ⟨rfl, rfl⟩
  replace h := ip c h
  refine j_iconst C (v := 1) dX14_isUnder_12 rfl ?_
  refine j_goto C dX14_isUnder_13 (tgt := 17) (by decide) ?_
  obtain rfl := sp1 h
  exact j_zret C rfl dX14_isUnder_17 (Nat.le_of_ble_eq_true rfl) (Nat.le_of_ble_eq_true rfl) ⟨rfl, rfl⟩
/-! turnsIn -/
def k15_14_turnsIn (T : XS) (a0 : Nat) (p1 : Int32) : Option (Int32 × XS) :=
  (getO T a0 15).bind fun q1 =>
  (x_ran T 1).bind fun T3 =>
  (getO T3 a0 15).bind fun q5 =>
  some ((p1 + (q5.2.1 0)), T3)
theorem mt_k15_14_turnsIn {κ : jK} (hκ : jX κ) (G : Nat → Nat) {T : XS} {a0 : Nat} {p1 : Int32} {v : Int32} {T' : XS} (h : k15_14_turnsIn T a0 p1 = some (v, T')) : jM κ yX14_turnsIn (ws_ yX14_turnsIn cX14_turnsIn 2 (some .int)) 1 0 0 [.ref a0, .int p1] (wX κ G T) (fun u w' => u = some (.int v) ∧ w' = wX κ G T') := by
  rw [k15_14_turnsIn] at h
  refine jM.of (by decide) rfl (Nat.le_of_ble_eq_true rfl) fun Γ C _ => ?_
  show J κ Γ (1, 0, 0, (fun u w' => u = some (.int v) ∧ w' = wX κ G T')) 2 (wX κ G T) 0 0 0 [some (.ref a0), some (.int p1)] []
  refine j_aload_n C dX14_turnsIn_0 rfl rfl ?_
  obtain ⟨q1, g2, h⟩ := ob h
  refine jx_gt15 hκ C g2 1 (by decide) rfl q1176 dX14_turnsIn_1 ?_
  refine j_iconst C (v := 1) dX14_turnsIn_4 rfl ?_
  obtain ⟨T3, e4, h⟩ := ob h
  refine jx_ran hκ C e4 q1292 dX14_turnsIn_5 (jfit.of (Nat.le_of_ble_eq_true rfl) (by decide) (Nat.le_of_ble_eq_true rfl) (Nat.le_of_ble_eq_true rfl) (Nat.le_of_ble_eq_true rfl)) ?_
  refine j_iload_n C dX14_turnsIn_8 rfl rfl ?_
  refine j_aload_n C dX14_turnsIn_9 rfl rfl ?_
  obtain ⟨q5, g6, h⟩ := ob h
  refine jx_gi15 hκ C g6 0 (by decide) rfl q1175 dX14_turnsIn_10 ?_
  refine j_iadd C dX14_turnsIn_13 ?_
  obtain ⟨rfl, rfl⟩ := sp2 h
  exact j_iret C dX14_turnsIn_14 (Nat.le_of_ble_eq_true rfl) (Nat.le_of_ble_eq_true rfl) ⟨rfl, rfl⟩
/-! turnsIn -/
def k15_15_turnsIn (T : XS) (a0 : Nat) (p1 : Int32) : Option (Int32 × XS) :=
  (getO T a0 15).bind fun q1 =>
  (x_ran T 20).bind fun T3 =>
  (getO T3 a0 15).bind fun q5 =>
  b2 (k15_14_turnsIn T3 a0 p1) fun v8 T9 =>
  some ((v8 + 3), T9)
theorem mt_k15_15_turnsIn {κ : jK} (hκ : jX κ) (G : Nat → Nat) {T : XS} {a0 : Nat} {p1 : Int32} {v : Int32} {T' : XS} (h : k15_15_turnsIn T a0 p1 = some (v, T')) : jM κ yX15_turnsIn (ws_ yX15_turnsIn cX15_turnsIn 2 (some .int)) 2 0 0 [.ref a0, .int p1] (wX κ G T) (fun u w' => u = some (.int v) ∧ w' = wX κ G T') := by
  rw [k15_15_turnsIn] at h
  refine jM.of (by decide) rfl (Nat.le_of_ble_eq_true rfl) fun Γ C _ => ?_
  show J κ Γ (2, 0, 0, (fun u w' => u = some (.int v) ∧ w' = wX κ G T')) 2 (wX κ G T) 0 0 0 [some (.ref a0), some (.int p1)] []
  refine j_aload_n C dX15_turnsIn_0 rfl rfl ?_
  obtain ⟨q1, g2, h⟩ := ob h
  refine jx_gt15 hκ C g2 2 (by decide) rfl q1174 dX15_turnsIn_1 ?_
  refine j_bipush C (v := 20) dX15_turnsIn_4 rfl ?_
  obtain ⟨T3, e4, h⟩ := ob h
  refine jx_ran hκ C e4 q1285 dX15_turnsIn_6 (jfit.of (Nat.le_of_ble_eq_true rfl) (by decide) (Nat.le_of_ble_eq_true rfl) (Nat.le_of_ble_eq_true rfl) (Nat.le_of_ble_eq_true rfl)) ?_
  refine j_aload_n C dX15_turnsIn_9 rfl rfl ?_
  refine j_iload_n C dX15_turnsIn_10 rfl rfl ?_
  obtain ⟨q5, g6, h⟩ := ob h
  obtain ⟨v8, T9, e7, h⟩ := ob2 h
  refine jx_SU (As := [.int p1]) hκ C (mt_k15_14_turnsIn hκ G e7) (lw_SU9 q1289 q2232 q1183 q1290 q141 q1291) (N := 1) ⟨by decide, by decide +kernel⟩ rfl g6 (by decide) rfl dX15_turnsIn_11 (jfit.of (Nat.le_of_ble_eq_true rfl) (by decide) (Nat.le_of_ble_eq_true rfl) (Nat.le_of_ble_eq_true rfl) (Nat.le_of_ble_eq_true rfl)) rfl ?_
  refine j_iconst C (v := 3) dX15_turnsIn_14 rfl ?_
  refine j_iadd C dX15_turnsIn_15 ?_
  obtain ⟨rfl, rfl⟩ := sp2 h
  exact j_iret C dX15_turnsIn_16 (Nat.le_of_ble_eq_true rfl) (Nat.le_of_ble_eq_true rfl) ⟨rfl, rfl⟩
/-! sees -/
def k15_14_sees (T : XS) (a0 : Nat) (p1 : Int32) : Option (Int32 × XS) :=
  (getO T a0 15).bind fun q1 =>
  (x_ran T 10).bind fun T3 =>
  (getO T3 a0 15).bind fun q5 =>
  b2 (k15_15_turnsIn T3 a0 p1) fun v8 T9 =>
  some ((v8 * 2), T9)
theorem mt_k15_14_sees {κ : jK} (hκ : jX κ) (G : Nat → Nat) {T : XS} {a0 : Nat} {p1 : Int32} {v : Int32} {T' : XS} (h : k15_14_sees T a0 p1 = some (v, T')) : jM κ yX14_sees (ws_ yX14_sees cX14_sees 2 (some .int)) 3 0 0 [.ref a0, .int p1] (wX κ G T) (fun u w' => u = some (.int v) ∧ w' = wX κ G T') := by
  rw [k15_14_sees] at h
  refine jM.of (by decide) rfl (Nat.le_of_ble_eq_true rfl) fun Γ C _ => ?_
  show J κ Γ (3, 0, 0, (fun u w' => u = some (.int v) ∧ w' = wX κ G T')) 2 (wX κ G T) 0 0 0 [some (.ref a0), some (.int p1)] []
  refine j_aload_n C dX14_sees_0 rfl rfl ?_
  obtain ⟨q1, g2, h⟩ := ob h
  refine jx_gt15 hκ C g2 1 (by decide) rfl q1176 dX14_sees_1 ?_
  refine j_bipush C (v := 10) dX14_sees_4 rfl ?_
  obtain ⟨T3, e4, h⟩ := ob h
  refine jx_ran hκ C e4 q1292 dX14_sees_6 (jfit.of (Nat.le_of_ble_eq_true rfl) (by decide) (Nat.le_of_ble_eq_true rfl) (Nat.le_of_ble_eq_true rfl) (Nat.le_of_ble_eq_true rfl)) ?_
  refine j_aload_n C dX14_sees_9 rfl rfl ?_
  refine j_iload_n C dX14_sees_10 rfl rfl ?_
  obtain ⟨q5, g6, h⟩ := ob h
  obtain ⟨v8, T9, e7, h⟩ := ob2 h
  refine jx_U (As := [.int p1]) hκ C (mt_k15_15_turnsIn hκ G e7) ⟨q1346, q2232, q2234, q1282, q142, q1284, (Or.inr ⟨q1290, _, _, _, q1291⟩), by decide, by decide⟩ (N := 1) (by decide +kernel) rfl g6 (by decide) rfl rfl dX14_sees_11 (jfit.of (Nat.le_of_ble_eq_true rfl) (by decide) (Nat.le_of_ble_eq_true rfl) (Nat.le_of_ble_eq_true rfl) (Nat.le_of_ble_eq_true rfl)) rfl ?_
  refine j_iconst C (v := 2) dX14_sees_14 rfl ?_
  refine j_imul C dX14_sees_15 ?_
  obtain ⟨rfl, rfl⟩ := sp2 h
  exact j_iret C dX14_sees_16 (Nat.le_of_ble_eq_true rfl) (Nat.le_of_ble_eq_true rfl) ⟨rfl, rfl⟩
/-! fears -/
def k15_14_fears (T : XS) (a0 : Nat) (p1 : Int32) : Option (Int32 × XS) :=
  (getO T a0 15).bind fun q1 =>
  (x_ran T 11).bind fun T3 =>
  (getO T3 a0 15).bind fun q5 =>
  some ((p1 ^^^ (q5.2.1 0)), T3)
theorem mt_k15_14_fears {κ : jK} (hκ : jX κ) (G : Nat → Nat) {T : XS} {a0 : Nat} {p1 : Int32} {v : Int32} {T' : XS} (h : k15_14_fears T a0 p1 = some (v, T')) : jM κ yX14_fears (ws_ yX14_fears cX14_fears 2 (some .int)) 1 0 0 [.ref a0, .int p1] (wX κ G T) (fun u w' => u = some (.int v) ∧ w' = wX κ G T') := by
  rw [k15_14_fears] at h
  refine jM.of (by decide) rfl (Nat.le_of_ble_eq_true rfl) fun Γ C _ => ?_
  show J κ Γ (1, 0, 0, (fun u w' => u = some (.int v) ∧ w' = wX κ G T')) 2 (wX κ G T) 0 0 0 [some (.ref a0), some (.int p1)] []
  refine j_aload_n C dX14_fears_0 rfl rfl ?_
  obtain ⟨q1, g2, h⟩ := ob h
  refine jx_gt15 hκ C g2 1 (by decide) rfl q1176 dX14_fears_1 ?_
  refine j_bipush C (v := 11) dX14_fears_4 rfl ?_
  obtain ⟨T3, e4, h⟩ := ob h
  refine jx_ran hκ C e4 q1292 dX14_fears_6 (jfit.of (Nat.le_of_ble_eq_true rfl) (by decide) (Nat.le_of_ble_eq_true rfl) (Nat.le_of_ble_eq_true rfl) (Nat.le_of_ble_eq_true rfl)) ?_
  refine j_iload_n C dX14_fears_9 rfl rfl ?_
  refine j_aload_n C dX14_fears_10 rfl rfl ?_
  obtain ⟨q5, g6, h⟩ := ob h
  refine jx_gi15 hκ C g6 0 (by decide) rfl q1175 dX14_fears_11 ?_
  refine j_ixor C dX14_fears_14 ?_
  obtain ⟨rfl, rfl⟩ := sp2 h
  exact j_iret C dX14_fears_15 (Nat.le_of_ble_eq_true rfl) (Nat.le_of_ble_eq_true rfl) ⟨rfl, rfl⟩
/-! tells -/
def k15_14_tells (T : XS) (a0 : Nat) (p1 : Int32) : Option (Int32 × XS) :=
  (getO T a0 15).bind fun q1 =>
  (x_ran T 2).bind fun T3 =>
  (getO T3 a0 15).bind fun q5 =>
  b2 (k15_14_sees T3 a0 p1) fun v8 T9 =>
  (getO T9 a0 15).bind fun q10 =>
  b2 (k15_14_fears T9 a0 1) fun v13 T14 =>
  some ((v8 - v13), T14)
theorem mt_k15_14_tells {κ : jK} (hκ : jX κ) (G : Nat → Nat) {T : XS} {a0 : Nat} {p1 : Int32} {v : Int32} {T' : XS} (h : k15_14_tells T a0 p1 = some (v, T')) : jM κ yX14_tells (ws_ yX14_tells cX14_tells 3 (some .int)) 4 0 0 [.ref a0, .int p1] (wX κ G T) (fun u w' => u = some (.int v) ∧ w' = wX κ G T') := by
  rw [k15_14_tells] at h
  refine jM.of (by decide) rfl (Nat.le_of_ble_eq_true rfl) fun Γ C _ => ?_
  show J κ Γ (4, 0, 0, (fun u w' => u = some (.int v) ∧ w' = wX κ G T')) 3 (wX κ G T) 0 0 0 [some (.ref a0), some (.int p1), none] []
  refine j_aload_n C dX14_tells_0 rfl rfl ?_
  obtain ⟨q1, g2, h⟩ := ob h
  refine jx_gt15 hκ C g2 1 (by decide) rfl q1176 dX14_tells_1 ?_
  refine j_iconst C (v := 2) dX14_tells_4 rfl ?_
  obtain ⟨T3, e4, h⟩ := ob h
  refine jx_ran hκ C e4 q1292 dX14_tells_5 (jfit.of (Nat.le_of_ble_eq_true rfl) (by decide) (Nat.le_of_ble_eq_true rfl) (Nat.le_of_ble_eq_true rfl) (Nat.le_of_ble_eq_true rfl)) ?_
  refine j_aload_n C dX14_tells_8 rfl rfl ?_
  refine j_iload_n C dX14_tells_9 rfl rfl ?_
  obtain ⟨q5, g6, h⟩ := ob h
  obtain ⟨v8, T9, e7, h⟩ := ob2 h
  refine jx_U (As := [.int p1]) hκ C (mt_k15_14_sees hκ G e7) ⟨q1330, q1333, q1334, q1331, q141, q1345, (Or.inl q1355), by decide, by decide⟩ (N := 1) (by decide +kernel) rfl g6 (by decide) rfl rfl dX14_tells_10 (jfit.of (Nat.le_of_ble_eq_true rfl) (by decide) (Nat.le_of_ble_eq_true rfl) (Nat.le_of_ble_eq_true rfl) (Nat.le_of_ble_eq_true rfl)) rfl ?_
  refine j_istore_n C dX14_tells_13 rfl (by decide) rfl ?_
  refine j_iload_n C dX14_tells_14 rfl rfl ?_
  refine j_aload_n C dX14_tells_15 rfl rfl ?_
  refine j_iconst C (v := 1) dX14_tells_16 rfl ?_
  obtain ⟨q10, g11, h⟩ := ob h
  obtain ⟨v13, T14, e12, h⟩ := ob2 h
  refine jx_U (As := [.int 1]) hκ C (mt_k15_14_fears hκ G e12) ⟨q1374, q2242, q2243, q1366, q141, q1367, (Or.inl q1365), by decide, by decide⟩ (N := 1) (by decide +kernel) rfl g11 (by decide) rfl rfl dX14_tells_17 (jfit.of (Nat.le_of_ble_eq_true rfl) (by decide) (Nat.le_of_ble_eq_true rfl) (Nat.le_of_ble_eq_true rfl) (Nat.le_of_ble_eq_true rfl)) rfl ?_
  refine j_isub C dX14_tells_20 ?_
  obtain ⟨rfl, rfl⟩ := sp2 h
  exact j_iret C dX14_tells_21 (Nat.le_of_ble_eq_true rfl) (Nat.le_of_ble_eq_true rfl) ⟨rfl, rfl⟩
/-! kind -/
def k15_15_kind (T : XS) (a0 : Nat) : Option Int32 :=
  some 1
theorem mt_k15_15_kind {κ : jK} (hκ : jX κ) (G : Nat → Nat) {T : XS} {a0 : Nat} {v : Int32} (h : k15_15_kind T a0 = some v) : jM κ yX15_kind (ws_ yX15_kind cX15_kind 1 (some .int)) 1 0 0 [.ref a0] (wX κ G T) (fun u w' => u = some (.int v) ∧ w' = wX κ G T) := by
  rw [k15_15_kind] at h
  refine jM.of (by decide) rfl (Nat.le_of_ble_eq_true rfl) fun Γ C _ => ?_
  show J κ Γ (1, 0, 0, (fun u w' => u = some (.int v) ∧ w' = wX κ G T)) 1 (wX κ G T) 0 0 0 [some (.ref a0)] []
  refine j_iconst C (v := 1) dX15_kind_0 rfl ?_
  obtain rfl := sp1 h
  exact j_iret C dX15_kind_1 (Nat.le_of_ble_eq_true rfl) (Nat.le_of_ble_eq_true rfl) ⟨rfl, rfl⟩
/-! isUnder -/
def k15_14_isUnder (T : XS) (a0 : Nat) (p1 : Int32) : Option Bool :=
  (if p1 = 0 then
  some true
  else
  (getO T a0 15).bind fun q1 =>
  (k15_15_kind T a0).bind fun v4 =>
  (if p1 = v4 then
  some true
  else
  some false))
theorem mt_k15_14_isUnder {κ : jK} (hκ : jX κ) (G : Nat → Nat) {T : XS} {a0 : Nat} {p1 : Int32} {v : Bool} (h : k15_14_isUnder T a0 p1 = some v) : jM κ yX14_isUnder (ws_ yX14_isUnder cX14_isUnder 2 (some .boolean)) 2 0 0 [.ref a0, .int p1] (wX κ G T) (fun u w' => u = some (.int (b2i v)) ∧ w' = wX κ G T) := by
  rw [k15_14_isUnder] at h
  refine jM.of (by decide) rfl (Nat.le_of_ble_eq_true rfl) fun Γ C _ => ?_
  show J κ Γ (2, 0, 0, (fun u w' => u = some (.int (b2i v)) ∧ w' = wX κ G T)) 2 (wX κ G T) 0 0 0 [some (.ref a0), some (.int p1)] []
  refine j_iload_n C dX14_isUnder_0 rfl rfl ?_
  refine j_if_eq C dX14_isUnder_1 (tgt := 12) (by decide) (fun c => ?_) (fun c => ?_)
  · replace h := ip c h
    refine j_iconst C (v := 1) dX14_isUnder_12 rfl ?_
    refine j_goto C dX14_isUnder_13 (tgt := 17) (by decide) ?_
    obtain rfl := sp1 h
    exact j_zret C rfl dX14_isUnder_17 (Nat.le_of_ble_eq_true rfl) (Nat.le_of_ble_eq_true rfl) ⟨rfl, rfl⟩
  replace h := im c h
  refine j_iload_n C dX14_isUnder_4 rfl rfl ?_
  refine j_aload_n C dX14_isUnder_5 rfl rfl ?_
  obtain ⟨q1, g2, h⟩ := ob h
  obtain ⟨v4, e3, h⟩ := ob h
  refine jx_U (As := []) hκ C (mt_k15_15_kind hκ G e3) ⟨q1585, q1588, q1589, q1590, q142, q1591, (Or.inr ⟨q1586, _, _, _, q1610⟩), by decide, by decide⟩ (N := 0) (by decide +kernel) rfl g2 (by decide) rfl rfl dX14_isUnder_6 (jfit.of (Nat.le_of_ble_eq_true rfl) (by decide) (Nat.le_of_ble_eq_true rfl) (Nat.le_of_ble_eq_true rfl) (Nat.le_of_ble_eq_true rfl)) rfl ?_
  refine j_icmp_ne C dX14_isUnder_9 (tgt := 16) (by decide) (fun c => ?_) (fun c => ?_)
  · replace h := im c h
    refine j_iconst C (v := 0) dX14_isUnder_16 rfl ?_
    obtain rfl := sp1 h
    exact j_zret C rfl dX14_isUnder_17 (Nat.le_of_ble_eq_true rfl) (Nat.le_of_ble_eq_true rfl) ⟨rfl, rfl⟩
  replace h := ip c h
  refine j_iconst C (v := 1) dX14_isUnder_12 rfl ?_
  refine j_goto C dX14_isUnder_13 (tgt := 17) (by decide) ?_
  obtain rfl := sp1 h
  exact j_zret C rfl dX14_isUnder_17 (Nat.le_of_ble_eq_true rfl) (Nat.le_of_ble_eq_true rfl) ⟨rfl, rfl⟩
/-! isUnder -/
def k15_15_isUnder (T : XS) (a0 : Nat) (p1 : Int32) : Option Bool :=
  (if p1 = 1 then
  some true
  else
  (getO T a0 15).bind fun q1 =>
  (k15_14_isUnder T a0 p1).bind fun v4 =>
  (if (b2i v4) = 0 then
  some false
  else
  some true))
theorem mt_k15_15_isUnder {κ : jK} (hκ : jX κ) (G : Nat → Nat) {T : XS} {a0 : Nat} {p1 : Int32} {v : Bool} (h : k15_15_isUnder T a0 p1 = some v) : jM κ yX15_isUnder (ws_ yX15_isUnder cX15_isUnder 2 (some .boolean)) 3 0 0 [.ref a0, .int p1] (wX κ G T) (fun u w' => u = some (.int (b2i v)) ∧ w' = wX κ G T) := by
  rw [k15_15_isUnder] at h
  refine jM.of (by decide) rfl (Nat.le_of_ble_eq_true rfl) fun Γ C _ => ?_
  show J κ Γ (3, 0, 0, (fun u w' => u = some (.int (b2i v)) ∧ w' = wX κ G T)) 2 (wX κ G T) 0 0 0 [some (.ref a0), some (.int p1)] []
  refine j_iload_n C dX15_isUnder_0 rfl rfl ?_
  refine j_iconst C (v := 1) dX15_isUnder_1 rfl ?_
  refine j_icmp_eq C dX15_isUnder_2 (tgt := 13) (by decide) (fun c => ?_) (fun c => ?_)
  · replace h := ip c h
    refine j_iconst C (v := 1) dX15_isUnder_13 rfl ?_
    refine j_goto C dX15_isUnder_14 (tgt := 18) (by decide) ?_
    obtain rfl := sp1 h
    exact j_zret C rfl dX15_isUnder_18 (Nat.le_of_ble_eq_true rfl) (Nat.le_of_ble_eq_true rfl) ⟨rfl, rfl⟩
  replace h := im c h
  refine j_aload_n C dX15_isUnder_5 rfl rfl ?_
  refine j_iload_n C dX15_isUnder_6 rfl rfl ?_
  obtain ⟨q1, g2, h⟩ := ob h
  obtain ⟨v4, e3, h⟩ := ob h
  refine jx_SU (As := [.int p1]) hκ C (mt_k15_14_isUnder hκ G e3) (lw_SU9 q1583 q1579 q1183 q1577 q141 q1584) (N := 1) ⟨by decide, by decide +kernel⟩ rfl g2 (by decide) rfl dX15_isUnder_7 (jfit.of (Nat.le_of_ble_eq_true rfl) (by decide) (Nat.le_of_ble_eq_true rfl) (Nat.le_of_ble_eq_true rfl) (Nat.le_of_ble_eq_true rfl)) rfl ?_
  refine j_if_eq C dX15_isUnder_10 (tgt := 17) (by decide) (fun c => ?_) (fun c => ?_)
  · replace h := ip c h
    refine j_iconst C (v := 0) dX15_isUnder_17 rfl ?_
    obtain rfl := sp1 h
    exact j_zret C rfl dX15_isUnder_18 (Nat.le_of_ble_eq_true rfl) (Nat.le_of_ble_eq_true rfl) ⟨rfl, rfl⟩
  replace h := im c h
  refine j_iconst C (v := 1) dX15_isUnder_13 rfl ?_
  refine j_goto C dX15_isUnder_14 (tgt := 18) (by decide) ?_
  obtain rfl := sp1 h
  exact j_zret C rfl dX15_isUnder_18 (Nat.le_of_ble_eq_true rfl) (Nat.le_of_ble_eq_true rfl) ⟨rfl, rfl⟩
/-! turnsIn -/
def k16_14_turnsIn (T : XS) (a0 : Nat) (p1 : Int32) : Option (Int32 × XS) :=
  (getO T a0 16).bind fun q1 =>
  (x_ran T 1).bind fun T3 =>
  (getO T3 a0 16).bind fun q5 =>
  some ((p1 + (q5.2.1 0)), T3)
theorem mt_k16_14_turnsIn {κ : jK} (hκ : jX κ) (G : Nat → Nat) {T : XS} {a0 : Nat} {p1 : Int32} {v : Int32} {T' : XS} (h : k16_14_turnsIn T a0 p1 = some (v, T')) : jM κ yX14_turnsIn (ws_ yX14_turnsIn cX14_turnsIn 2 (some .int)) 1 0 0 [.ref a0, .int p1] (wX κ G T) (fun u w' => u = some (.int v) ∧ w' = wX κ G T') := by
  rw [k16_14_turnsIn] at h
  refine jM.of (by decide) rfl (Nat.le_of_ble_eq_true rfl) fun Γ C _ => ?_
  show J κ Γ (1, 0, 0, (fun u w' => u = some (.int v) ∧ w' = wX κ G T')) 2 (wX κ G T) 0 0 0 [some (.ref a0), some (.int p1)] []
  refine j_aload_n C dX14_turnsIn_0 rfl rfl ?_
  obtain ⟨q1, g2, h⟩ := ob h
  refine jx_gt16 hκ C g2 1 (by decide) rfl q1176 dX14_turnsIn_1 ?_
  refine j_iconst C (v := 1) dX14_turnsIn_4 rfl ?_
  obtain ⟨T3, e4, h⟩ := ob h
  refine jx_ran hκ C e4 q1292 dX14_turnsIn_5 (jfit.of (Nat.le_of_ble_eq_true rfl) (by decide) (Nat.le_of_ble_eq_true rfl) (Nat.le_of_ble_eq_true rfl) (Nat.le_of_ble_eq_true rfl)) ?_
  refine j_iload_n C dX14_turnsIn_8 rfl rfl ?_
  refine j_aload_n C dX14_turnsIn_9 rfl rfl ?_
  obtain ⟨q5, g6, h⟩ := ob h
  refine jx_gi16 hκ C g6 0 (by decide) rfl q1175 dX14_turnsIn_10 ?_
  refine j_iadd C dX14_turnsIn_13 ?_
  obtain ⟨rfl, rfl⟩ := sp2 h
  exact j_iret C dX14_turnsIn_14 (Nat.le_of_ble_eq_true rfl) (Nat.le_of_ble_eq_true rfl) ⟨rfl, rfl⟩
/-! sees -/
def k16_14_sees (T : XS) (a0 : Nat) (p1 : Int32) : Option (Int32 × XS) :=
  (getO T a0 16).bind fun q1 =>
  (x_ran T 10).bind fun T3 =>
  (getO T3 a0 16).bind fun q5 =>
  b2 (k16_14_turnsIn T3 a0 p1) fun v8 T9 =>
  some ((v8 * 2), T9)
theorem mt_k16_14_sees {κ : jK} (hκ : jX κ) (G : Nat → Nat) {T : XS} {a0 : Nat} {p1 : Int32} {v : Int32} {T' : XS} (h : k16_14_sees T a0 p1 = some (v, T')) : jM κ yX14_sees (ws_ yX14_sees cX14_sees 2 (some .int)) 2 0 0 [.ref a0, .int p1] (wX κ G T) (fun u w' => u = some (.int v) ∧ w' = wX κ G T') := by
  rw [k16_14_sees] at h
  refine jM.of (by decide) rfl (Nat.le_of_ble_eq_true rfl) fun Γ C _ => ?_
  show J κ Γ (2, 0, 0, (fun u w' => u = some (.int v) ∧ w' = wX κ G T')) 2 (wX κ G T) 0 0 0 [some (.ref a0), some (.int p1)] []
  refine j_aload_n C dX14_sees_0 rfl rfl ?_
  obtain ⟨q1, g2, h⟩ := ob h
  refine jx_gt16 hκ C g2 1 (by decide) rfl q1176 dX14_sees_1 ?_
  refine j_bipush C (v := 10) dX14_sees_4 rfl ?_
  obtain ⟨T3, e4, h⟩ := ob h
  refine jx_ran hκ C e4 q1292 dX14_sees_6 (jfit.of (Nat.le_of_ble_eq_true rfl) (by decide) (Nat.le_of_ble_eq_true rfl) (Nat.le_of_ble_eq_true rfl) (Nat.le_of_ble_eq_true rfl)) ?_
  refine j_aload_n C dX14_sees_9 rfl rfl ?_
  refine j_iload_n C dX14_sees_10 rfl rfl ?_
  obtain ⟨q5, g6, h⟩ := ob h
  obtain ⟨v8, T9, e7, h⟩ := ob2 h
  refine jx_U (As := [.int p1]) hκ C (mt_k16_14_turnsIn hκ G e7) ⟨q1346, q2232, q2238, q1290, q141, q1291, (Or.inr ⟨q1290, _, _, _, q1291⟩), by decide, by decide⟩ (N := 1) (by decide +kernel) rfl g6 (by decide) rfl rfl dX14_sees_11 (jfit.of (Nat.le_of_ble_eq_true rfl) (by decide) (Nat.le_of_ble_eq_true rfl) (Nat.le_of_ble_eq_true rfl) (Nat.le_of_ble_eq_true rfl)) rfl ?_
  refine j_iconst C (v := 2) dX14_sees_14 rfl ?_
  refine j_imul C dX14_sees_15 ?_
  obtain ⟨rfl, rfl⟩ := sp2 h
  exact j_iret C dX14_sees_16 (Nat.le_of_ble_eq_true rfl) (Nat.le_of_ble_eq_true rfl) ⟨rfl, rfl⟩
/-! sees -/
def k16_16_sees (T : XS) (a0 : Nat) (p1 : Int32) : Option (Int32 × XS) :=
  (getO T a0 16).bind fun q1 =>
  (x_ran T 30).bind fun T3 =>
  (getO T3 a0 16).bind fun q5 =>
  b2 (k16_14_sees T3 a0 p1) fun v8 T9 =>
  some ((-v8), T9)
theorem mt_k16_16_sees {κ : jK} (hκ : jX κ) (G : Nat → Nat) {T : XS} {a0 : Nat} {p1 : Int32} {v : Int32} {T' : XS} (h : k16_16_sees T a0 p1 = some (v, T')) : jM κ yX16_sees (ws_ yX16_sees cX16_sees 2 (some .int)) 3 0 0 [.ref a0, .int p1] (wX κ G T) (fun u w' => u = some (.int v) ∧ w' = wX κ G T') := by
  rw [k16_16_sees] at h
  refine jM.of (by decide) rfl (Nat.le_of_ble_eq_true rfl) fun Γ C _ => ?_
  show J κ Γ (3, 0, 0, (fun u w' => u = some (.int v) ∧ w' = wX κ G T')) 2 (wX κ G T) 0 0 0 [some (.ref a0), some (.int p1)] []
  refine j_aload_n C dX16_sees_0 rfl rfl ?_
  obtain ⟨q1, g2, h⟩ := ob h
  refine jx_gt16 hκ C g2 2 (by decide) rfl q1190 dX16_sees_1 ?_
  refine j_bipush C (v := 30) dX16_sees_4 rfl ?_
  obtain ⟨T3, e4, h⟩ := ob h
  refine jx_ran hκ C e4 q1343 dX16_sees_6 (jfit.of (Nat.le_of_ble_eq_true rfl) (by decide) (Nat.le_of_ble_eq_true rfl) (Nat.le_of_ble_eq_true rfl) (Nat.le_of_ble_eq_true rfl)) ?_
  refine j_aload_n C dX16_sees_9 rfl rfl ?_
  refine j_iload_n C dX16_sees_10 rfl rfl ?_
  obtain ⟨q5, g6, h⟩ := ob h
  obtain ⟨v8, T9, e7, h⟩ := ob2 h
  refine jx_SU (As := [.int p1]) hκ C (mt_k16_14_sees hκ G e7) (lw_SU9 q1344 q1333 q1195 q1331 q141 q1345) (N := 1) ⟨by decide, by decide +kernel⟩ rfl g6 (by decide) rfl dX16_sees_11 (jfit.of (Nat.le_of_ble_eq_true rfl) (by decide) (Nat.le_of_ble_eq_true rfl) (Nat.le_of_ble_eq_true rfl) (Nat.le_of_ble_eq_true rfl)) rfl ?_
  refine j_ineg C dX16_sees_14 ?_
  obtain ⟨rfl, rfl⟩ := sp2 h
  exact j_iret C dX16_sees_15 (Nat.le_of_ble_eq_true rfl) (Nat.le_of_ble_eq_true rfl) ⟨rfl, rfl⟩
/-! fears -/
def k16_14_fears (T : XS) (a0 : Nat) (p1 : Int32) : Option (Int32 × XS) :=
  (getO T a0 16).bind fun q1 =>
  (x_ran T 11).bind fun T3 =>
  (getO T3 a0 16).bind fun q5 =>
  some ((p1 ^^^ (q5.2.1 0)), T3)
theorem mt_k16_14_fears {κ : jK} (hκ : jX κ) (G : Nat → Nat) {T : XS} {a0 : Nat} {p1 : Int32} {v : Int32} {T' : XS} (h : k16_14_fears T a0 p1 = some (v, T')) : jM κ yX14_fears (ws_ yX14_fears cX14_fears 2 (some .int)) 1 0 0 [.ref a0, .int p1] (wX κ G T) (fun u w' => u = some (.int v) ∧ w' = wX κ G T') := by
  rw [k16_14_fears] at h
  refine jM.of (by decide) rfl (Nat.le_of_ble_eq_true rfl) fun Γ C _ => ?_
  show J κ Γ (1, 0, 0, (fun u w' => u = some (.int v) ∧ w' = wX κ G T')) 2 (wX κ G T) 0 0 0 [some (.ref a0), some (.int p1)] []
  refine j_aload_n C dX14_fears_0 rfl rfl ?_
  obtain ⟨q1, g2, h⟩ := ob h
  refine jx_gt16 hκ C g2 1 (by decide) rfl q1176 dX14_fears_1 ?_
  refine j_bipush C (v := 11) dX14_fears_4 rfl ?_
  obtain ⟨T3, e4, h⟩ := ob h
  refine jx_ran hκ C e4 q1292 dX14_fears_6 (jfit.of (Nat.le_of_ble_eq_true rfl) (by decide) (Nat.le_of_ble_eq_true rfl) (Nat.le_of_ble_eq_true rfl) (Nat.le_of_ble_eq_true rfl)) ?_
  refine j_iload_n C dX14_fears_9 rfl rfl ?_
  refine j_aload_n C dX14_fears_10 rfl rfl ?_
  obtain ⟨q5, g6, h⟩ := ob h
  refine jx_gi16 hκ C g6 0 (by decide) rfl q1175 dX14_fears_11 ?_
  refine j_ixor C dX14_fears_14 ?_
  obtain ⟨rfl, rfl⟩ := sp2 h
  exact j_iret C dX14_fears_15 (Nat.le_of_ble_eq_true rfl) (Nat.le_of_ble_eq_true rfl) ⟨rfl, rfl⟩
/-! tells -/
def k16_14_tells (T : XS) (a0 : Nat) (p1 : Int32) : Option (Int32 × XS) :=
  (getO T a0 16).bind fun q1 =>
  (x_ran T 2).bind fun T3 =>
  (getO T3 a0 16).bind fun q5 =>
  b2 (k16_16_sees T3 a0 p1) fun v8 T9 =>
  (getO T9 a0 16).bind fun q10 =>
  b2 (k16_14_fears T9 a0 1) fun v13 T14 =>
  some ((v8 - v13), T14)
theorem mt_k16_14_tells {κ : jK} (hκ : jX κ) (G : Nat → Nat) {T : XS} {a0 : Nat} {p1 : Int32} {v : Int32} {T' : XS} (h : k16_14_tells T a0 p1 = some (v, T')) : jM κ yX14_tells (ws_ yX14_tells cX14_tells 3 (some .int)) 4 0 0 [.ref a0, .int p1] (wX κ G T) (fun u w' => u = some (.int v) ∧ w' = wX κ G T') := by
  rw [k16_14_tells] at h
  refine jM.of (by decide) rfl (Nat.le_of_ble_eq_true rfl) fun Γ C _ => ?_
  show J κ Γ (4, 0, 0, (fun u w' => u = some (.int v) ∧ w' = wX κ G T')) 3 (wX κ G T) 0 0 0 [some (.ref a0), some (.int p1), none] []
  refine j_aload_n C dX14_tells_0 rfl rfl ?_
  obtain ⟨q1, g2, h⟩ := ob h
  refine jx_gt16 hκ C g2 1 (by decide) rfl q1176 dX14_tells_1 ?_
  refine j_iconst C (v := 2) dX14_tells_4 rfl ?_
  obtain ⟨T3, e4, h⟩ := ob h
  refine jx_ran hκ C e4 q1292 dX14_tells_5 (jfit.of (Nat.le_of_ble_eq_true rfl) (by decide) (Nat.le_of_ble_eq_true rfl) (Nat.le_of_ble_eq_true rfl) (Nat.le_of_ble_eq_true rfl)) ?_
  refine j_aload_n C dX14_tells_8 rfl rfl ?_
  refine j_iload_n C dX14_tells_9 rfl rfl ?_
  obtain ⟨q5, g6, h⟩ := ob h
  obtain ⟨v8, T9, e7, h⟩ := ob2 h
  refine jx_U (As := [.int p1]) hκ C (mt_k16_16_sees hκ G e7) ⟨q1330, q1333, q1347, q1341, q143, q1342, (Or.inl q1355), by decide, by decide⟩ (N := 1) (by decide +kernel) rfl g6 (by decide) rfl rfl dX14_tells_10 (jfit.of (Nat.le_of_ble_eq_true rfl) (by decide) (Nat.le_of_ble_eq_true rfl) (Nat.le_of_ble_eq_true rfl) (Nat.le_of_ble_eq_true rfl)) rfl ?_
  refine j_istore_n C dX14_tells_13 rfl (by decide) rfl ?_
  refine j_iload_n C dX14_tells_14 rfl rfl ?_
  refine j_aload_n C dX14_tells_15 rfl rfl ?_
  refine j_iconst C (v := 1) dX14_tells_16 rfl ?_
  obtain ⟨q10, g11, h⟩ := ob h
  obtain ⟨v13, T14, e12, h⟩ := ob2 h
  refine jx_U (As := [.int 1]) hκ C (mt_k16_14_fears hκ G e12) ⟨q1374, q2242, q2247, q1366, q141, q1367, (Or.inl q1365), by decide, by decide⟩ (N := 1) (by decide +kernel) rfl g11 (by decide) rfl rfl dX14_tells_17 (jfit.of (Nat.le_of_ble_eq_true rfl) (by decide) (Nat.le_of_ble_eq_true rfl) (Nat.le_of_ble_eq_true rfl) (Nat.le_of_ble_eq_true rfl)) rfl ?_
  refine j_isub C dX14_tells_20 ?_
  obtain ⟨rfl, rfl⟩ := sp2 h
  exact j_iret C dX14_tells_21 (Nat.le_of_ble_eq_true rfl) (Nat.le_of_ble_eq_true rfl) ⟨rfl, rfl⟩
/-! kind -/
def k16_16_kind (T : XS) (a0 : Nat) : Option Int32 :=
  some 2
theorem mt_k16_16_kind {κ : jK} (hκ : jX κ) (G : Nat → Nat) {T : XS} {a0 : Nat} {v : Int32} (h : k16_16_kind T a0 = some v) : jM κ yX16_kind (ws_ yX16_kind cX16_kind 1 (some .int)) 1 0 0 [.ref a0] (wX κ G T) (fun u w' => u = some (.int v) ∧ w' = wX κ G T) := by
  rw [k16_16_kind] at h
  refine jM.of (by decide) rfl (Nat.le_of_ble_eq_true rfl) fun Γ C _ => ?_
  show J κ Γ (1, 0, 0, (fun u w' => u = some (.int v) ∧ w' = wX κ G T)) 1 (wX κ G T) 0 0 0 [some (.ref a0)] []
  refine j_iconst C (v := 2) dX16_kind_0 rfl ?_
  obtain rfl := sp1 h
  exact j_iret C dX16_kind_1 (Nat.le_of_ble_eq_true rfl) (Nat.le_of_ble_eq_true rfl) ⟨rfl, rfl⟩
/-! isUnder -/
def k16_14_isUnder (T : XS) (a0 : Nat) (p1 : Int32) : Option Bool :=
  (if p1 = 0 then
  some true
  else
  (getO T a0 16).bind fun q1 =>
  (k16_16_kind T a0).bind fun v4 =>
  (if p1 = v4 then
  some true
  else
  some false))
theorem mt_k16_14_isUnder {κ : jK} (hκ : jX κ) (G : Nat → Nat) {T : XS} {a0 : Nat} {p1 : Int32} {v : Bool} (h : k16_14_isUnder T a0 p1 = some v) : jM κ yX14_isUnder (ws_ yX14_isUnder cX14_isUnder 2 (some .boolean)) 2 0 0 [.ref a0, .int p1] (wX κ G T) (fun u w' => u = some (.int (b2i v)) ∧ w' = wX κ G T) := by
  rw [k16_14_isUnder] at h
  refine jM.of (by decide) rfl (Nat.le_of_ble_eq_true rfl) fun Γ C _ => ?_
  show J κ Γ (2, 0, 0, (fun u w' => u = some (.int (b2i v)) ∧ w' = wX κ G T)) 2 (wX κ G T) 0 0 0 [some (.ref a0), some (.int p1)] []
  refine j_iload_n C dX14_isUnder_0 rfl rfl ?_
  refine j_if_eq C dX14_isUnder_1 (tgt := 12) (by decide) (fun c => ?_) (fun c => ?_)
  · replace h := ip c h
    refine j_iconst C (v := 1) dX14_isUnder_12 rfl ?_
    refine j_goto C dX14_isUnder_13 (tgt := 17) (by decide) ?_
    obtain rfl := sp1 h
    exact j_zret C rfl dX14_isUnder_17 (Nat.le_of_ble_eq_true rfl) (Nat.le_of_ble_eq_true rfl) ⟨rfl, rfl⟩
  replace h := im c h
  refine j_iload_n C dX14_isUnder_4 rfl rfl ?_
  refine j_aload_n C dX14_isUnder_5 rfl rfl ?_
  obtain ⟨q1, g2, h⟩ := ob h
  obtain ⟨v4, e3, h⟩ := ob h
  refine jx_U (As := []) hκ C (mt_k16_16_kind hκ G e3) ⟨q1585, q1588, q1598, q1599, q143, q1600, (Or.inr ⟨q1586, _, _, _, q1610⟩), by decide, by decide⟩ (N := 0) (by decide +kernel) rfl g2 (by decide) rfl rfl dX14_isUnder_6 (jfit.of (Nat.le_of_ble_eq_true rfl) (by decide) (Nat.le_of_ble_eq_true rfl) (Nat.le_of_ble_eq_true rfl) (Nat.le_of_ble_eq_true rfl)) rfl ?_
  refine j_icmp_ne C dX14_isUnder_9 (tgt := 16) (by decide) (fun c => ?_) (fun c => ?_)
  · replace h := im c h
    refine j_iconst C (v := 0) dX14_isUnder_16 rfl ?_
    obtain rfl := sp1 h
    exact j_zret C rfl dX14_isUnder_17 (Nat.le_of_ble_eq_true rfl) (Nat.le_of_ble_eq_true rfl) ⟨rfl, rfl⟩
  replace h := ip c h
  refine j_iconst C (v := 1) dX14_isUnder_12 rfl ?_
  refine j_goto C dX14_isUnder_13 (tgt := 17) (by decide) ?_
  obtain rfl := sp1 h
  exact j_zret C rfl dX14_isUnder_17 (Nat.le_of_ble_eq_true rfl) (Nat.le_of_ble_eq_true rfl) ⟨rfl, rfl⟩
/-! isUnder -/
def k16_16_isUnder (T : XS) (a0 : Nat) (p1 : Int32) : Option Bool :=
  (if p1 = 2 then
  some true
  else
  (getO T a0 16).bind fun q1 =>
  (k16_14_isUnder T a0 p1).bind fun v4 =>
  (if (b2i v4) = 0 then
  some false
  else
  some true))
theorem mt_k16_16_isUnder {κ : jK} (hκ : jX κ) (G : Nat → Nat) {T : XS} {a0 : Nat} {p1 : Int32} {v : Bool} (h : k16_16_isUnder T a0 p1 = some v) : jM κ yX16_isUnder (ws_ yX16_isUnder cX16_isUnder 2 (some .boolean)) 3 0 0 [.ref a0, .int p1] (wX κ G T) (fun u w' => u = some (.int (b2i v)) ∧ w' = wX κ G T) := by
  rw [k16_16_isUnder] at h
  refine jM.of (by decide) rfl (Nat.le_of_ble_eq_true rfl) fun Γ C _ => ?_
  show J κ Γ (3, 0, 0, (fun u w' => u = some (.int (b2i v)) ∧ w' = wX κ G T)) 2 (wX κ G T) 0 0 0 [some (.ref a0), some (.int p1)] []
  refine j_iload_n C dX16_isUnder_0 rfl rfl ?_
  refine j_iconst C (v := 2) dX16_isUnder_1 rfl ?_
  refine j_icmp_eq C dX16_isUnder_2 (tgt := 13) (by decide) (fun c => ?_) (fun c => ?_)
  · replace h := ip c h
    refine j_iconst C (v := 1) dX16_isUnder_13 rfl ?_
    refine j_goto C dX16_isUnder_14 (tgt := 18) (by decide) ?_
    obtain rfl := sp1 h
    exact j_zret C rfl dX16_isUnder_18 (Nat.le_of_ble_eq_true rfl) (Nat.le_of_ble_eq_true rfl) ⟨rfl, rfl⟩
  replace h := im c h
  refine j_aload_n C dX16_isUnder_5 rfl rfl ?_
  refine j_iload_n C dX16_isUnder_6 rfl rfl ?_
  obtain ⟨q1, g2, h⟩ := ob h
  obtain ⟨v4, e3, h⟩ := ob h
  refine jx_SU (As := [.int p1]) hκ C (mt_k16_14_isUnder hκ G e3) (lw_SU9 q1618 q1579 q1195 q1577 q141 q1584) (N := 1) ⟨by decide, by decide +kernel⟩ rfl g2 (by decide) rfl dX16_isUnder_7 (jfit.of (Nat.le_of_ble_eq_true rfl) (by decide) (Nat.le_of_ble_eq_true rfl) (Nat.le_of_ble_eq_true rfl) (Nat.le_of_ble_eq_true rfl)) rfl ?_
  refine j_if_eq C dX16_isUnder_10 (tgt := 17) (by decide) (fun c => ?_) (fun c => ?_)
  · replace h := ip c h
    refine j_iconst C (v := 0) dX16_isUnder_17 rfl ?_
    obtain rfl := sp1 h
    exact j_zret C rfl dX16_isUnder_18 (Nat.le_of_ble_eq_true rfl) (Nat.le_of_ble_eq_true rfl) ⟨rfl, rfl⟩
  replace h := im c h
  refine j_iconst C (v := 1) dX16_isUnder_13 rfl ?_
  refine j_goto C dX16_isUnder_14 (tgt := 18) (by decide) ?_
  obtain rfl := sp1 h
  exact j_zret C rfl dX16_isUnder_18 (Nat.le_of_ble_eq_true rfl) (Nat.le_of_ble_eq_true rfl) ⟨rfl, rfl⟩
/-! turnsIn -/
def k17_14_turnsIn (T : XS) (a0 : Nat) (p1 : Int32) : Option (Int32 × XS) :=
  (getO T a0 17).bind fun q1 =>
  (x_ran T 1).bind fun T3 =>
  (getO T3 a0 17).bind fun q5 =>
  some ((p1 + (q5.2.1 0)), T3)
theorem mt_k17_14_turnsIn {κ : jK} (hκ : jX κ) (G : Nat → Nat) {T : XS} {a0 : Nat} {p1 : Int32} {v : Int32} {T' : XS} (h : k17_14_turnsIn T a0 p1 = some (v, T')) : jM κ yX14_turnsIn (ws_ yX14_turnsIn cX14_turnsIn 2 (some .int)) 1 0 0 [.ref a0, .int p1] (wX κ G T) (fun u w' => u = some (.int v) ∧ w' = wX κ G T') := by
  rw [k17_14_turnsIn] at h
  refine jM.of (by decide) rfl (Nat.le_of_ble_eq_true rfl) fun Γ C _ => ?_
  show J κ Γ (1, 0, 0, (fun u w' => u = some (.int v) ∧ w' = wX κ G T')) 2 (wX κ G T) 0 0 0 [some (.ref a0), some (.int p1)] []
  refine j_aload_n C dX14_turnsIn_0 rfl rfl ?_
  obtain ⟨q1, g2, h⟩ := ob h
  refine jx_gt17 hκ C g2 1 (by decide) rfl q1176 dX14_turnsIn_1 ?_
  refine j_iconst C (v := 1) dX14_turnsIn_4 rfl ?_
  obtain ⟨T3, e4, h⟩ := ob h
  refine jx_ran hκ C e4 q1292 dX14_turnsIn_5 (jfit.of (Nat.le_of_ble_eq_true rfl) (by decide) (Nat.le_of_ble_eq_true rfl) (Nat.le_of_ble_eq_true rfl) (Nat.le_of_ble_eq_true rfl)) ?_
  refine j_iload_n C dX14_turnsIn_8 rfl rfl ?_
  refine j_aload_n C dX14_turnsIn_9 rfl rfl ?_
  obtain ⟨q5, g6, h⟩ := ob h
  refine jx_gi17 hκ C g6 0 (by decide) rfl q1175 dX14_turnsIn_10 ?_
  refine j_iadd C dX14_turnsIn_13 ?_
  obtain ⟨rfl, rfl⟩ := sp2 h
  exact j_iret C dX14_turnsIn_14 (Nat.le_of_ble_eq_true rfl) (Nat.le_of_ble_eq_true rfl) ⟨rfl, rfl⟩
/-! sees -/
def k17_14_sees (T : XS) (a0 : Nat) (p1 : Int32) : Option (Int32 × XS) :=
  (getO T a0 17).bind fun q1 =>
  (x_ran T 10).bind fun T3 =>
  (getO T3 a0 17).bind fun q5 =>
  b2 (k17_14_turnsIn T3 a0 p1) fun v8 T9 =>
  some ((v8 * 2), T9)
theorem mt_k17_14_sees {κ : jK} (hκ : jX κ) (G : Nat → Nat) {T : XS} {a0 : Nat} {p1 : Int32} {v : Int32} {T' : XS} (h : k17_14_sees T a0 p1 = some (v, T')) : jM κ yX14_sees (ws_ yX14_sees cX14_sees 2 (some .int)) 2 0 0 [.ref a0, .int p1] (wX κ G T) (fun u w' => u = some (.int v) ∧ w' = wX κ G T') := by
  rw [k17_14_sees] at h
  refine jM.of (by decide) rfl (Nat.le_of_ble_eq_true rfl) fun Γ C _ => ?_
  show J κ Γ (2, 0, 0, (fun u w' => u = some (.int v) ∧ w' = wX κ G T')) 2 (wX κ G T) 0 0 0 [some (.ref a0), some (.int p1)] []
  refine j_aload_n C dX14_sees_0 rfl rfl ?_
  obtain ⟨q1, g2, h⟩ := ob h
  refine jx_gt17 hκ C g2 1 (by decide) rfl q1176 dX14_sees_1 ?_
  refine j_bipush C (v := 10) dX14_sees_4 rfl ?_
  obtain ⟨T3, e4, h⟩ := ob h
  refine jx_ran hκ C e4 q1292 dX14_sees_6 (jfit.of (Nat.le_of_ble_eq_true rfl) (by decide) (Nat.le_of_ble_eq_true rfl) (Nat.le_of_ble_eq_true rfl) (Nat.le_of_ble_eq_true rfl)) ?_
  refine j_aload_n C dX14_sees_9 rfl rfl ?_
  refine j_iload_n C dX14_sees_10 rfl rfl ?_
  obtain ⟨q5, g6, h⟩ := ob h
  obtain ⟨v8, T9, e7, h⟩ := ob2 h
  refine jx_U (As := [.int p1]) hκ C (mt_k17_14_turnsIn hκ G e7) ⟨q1346, q2232, q2236, q1290, q141, q1291, (Or.inr ⟨q1290, _, _, _, q1291⟩), by decide, by decide⟩ (N := 1) (by decide +kernel) rfl g6 (by decide) rfl rfl dX14_sees_11 (jfit.of (Nat.le_of_ble_eq_true rfl) (by decide) (Nat.le_of_ble_eq_true rfl) (Nat.le_of_ble_eq_true rfl) (Nat.le_of_ble_eq_true rfl)) rfl ?_
  refine j_iconst C (v := 2) dX14_sees_14 rfl ?_
  refine j_imul C dX14_sees_15 ?_
  obtain ⟨rfl, rfl⟩ := sp2 h
  exact j_iret C dX14_sees_16 (Nat.le_of_ble_eq_true rfl) (Nat.le_of_ble_eq_true rfl) ⟨rfl, rfl⟩
/-! sees -/
def k17_16_sees (T : XS) (a0 : Nat) (p1 : Int32) : Option (Int32 × XS) :=
  (getO T a0 17).bind fun q1 =>
  (x_ran T 30).bind fun T3 =>
  (getO T3 a0 17).bind fun q5 =>
  b2 (k17_14_sees T3 a0 p1) fun v8 T9 =>
  some ((-v8), T9)
theorem mt_k17_16_sees {κ : jK} (hκ : jX κ) (G : Nat → Nat) {T : XS} {a0 : Nat} {p1 : Int32} {v : Int32} {T' : XS} (h : k17_16_sees T a0 p1 = some (v, T')) : jM κ yX16_sees (ws_ yX16_sees cX16_sees 2 (some .int)) 3 0 0 [.ref a0, .int p1] (wX κ G T) (fun u w' => u = some (.int v) ∧ w' = wX κ G T') := by
  rw [k17_16_sees] at h
  refine jM.of (by decide) rfl (Nat.le_of_ble_eq_true rfl) fun Γ C _ => ?_
  show J κ Γ (3, 0, 0, (fun u w' => u = some (.int v) ∧ w' = wX κ G T')) 2 (wX κ G T) 0 0 0 [some (.ref a0), some (.int p1)] []
  refine j_aload_n C dX16_sees_0 rfl rfl ?_
  obtain ⟨q1, g2, h⟩ := ob h
  refine jx_gt17 hκ C g2 2 (by decide) rfl q1190 dX16_sees_1 ?_
  refine j_bipush C (v := 30) dX16_sees_4 rfl ?_
  obtain ⟨T3, e4, h⟩ := ob h
  refine jx_ran hκ C e4 q1343 dX16_sees_6 (jfit.of (Nat.le_of_ble_eq_true rfl) (by decide) (Nat.le_of_ble_eq_true rfl) (Nat.le_of_ble_eq_true rfl) (Nat.le_of_ble_eq_true rfl)) ?_
  refine j_aload_n C dX16_sees_9 rfl rfl ?_
  refine j_iload_n C dX16_sees_10 rfl rfl ?_
  obtain ⟨q5, g6, h⟩ := ob h
  obtain ⟨v8, T9, e7, h⟩ := ob2 h
  refine jx_SU (As := [.int p1]) hκ C (mt_k17_14_sees hκ G e7) (lw_SU9 q1344 q1333 q1195 q1331 q141 q1345) (N := 1) ⟨by decide, by decide +kernel⟩ rfl g6 (by decide) rfl dX16_sees_11 (jfit.of (Nat.le_of_ble_eq_true rfl) (by decide) (Nat.le_of_ble_eq_true rfl) (Nat.le_of_ble_eq_true rfl) (Nat.le_of_ble_eq_true rfl)) rfl ?_
  refine j_ineg C dX16_sees_14 ?_
  obtain ⟨rfl, rfl⟩ := sp2 h
  exact j_iret C dX16_sees_15 (Nat.le_of_ble_eq_true rfl) (Nat.le_of_ble_eq_true rfl) ⟨rfl, rfl⟩
/-! sees -/
def k17_17_sees (T : XS) (a0 : Nat) (p1 : Int32) : Option (Int32 × XS) :=
  (getO T a0 17).bind fun q1 =>
  (x_ran T 41).bind fun T3 =>
  (getO T3 a0 17).bind fun q5 =>
  b2 (k17_16_sees T3 a0 (p1 + 1)) fun v8 T9 =>
  some (v8, T9)
theorem mt_k17_17_sees {κ : jK} (hκ : jX κ) (G : Nat → Nat) {T : XS} {a0 : Nat} {p1 : Int32} {v : Int32} {T' : XS} (h : k17_17_sees T a0 p1 = some (v, T')) : jM κ yX17_sees (ws_ yX17_sees cX17_sees 2 (some .int)) 4 0 0 [.ref a0, .int p1] (wX κ G T) (fun u w' => u = some (.int v) ∧ w' = wX κ G T') := by
  rw [k17_17_sees] at h
  refine jM.of (by decide) rfl (Nat.le_of_ble_eq_true rfl) fun Γ C _ => ?_
  show J κ Γ (4, 0, 0, (fun u w' => u = some (.int v) ∧ w' = wX κ G T')) 2 (wX κ G T) 0 0 0 [some (.ref a0), some (.int p1)] []
  refine j_aload_n C dX17_sees_0 rfl rfl ?_
  obtain ⟨q1, g2, h⟩ := ob h
  refine jx_gt17 hκ C g2 3 (by decide) rfl q1202 dX17_sees_1 ?_
  refine j_bipush C (v := 41) dX17_sees_4 rfl ?_
  obtain ⟨T3, e4, h⟩ := ob h
  refine jx_ran hκ C e4 q1339 dX17_sees_6 (jfit.of (Nat.le_of_ble_eq_true rfl) (by decide) (Nat.le_of_ble_eq_true rfl) (Nat.le_of_ble_eq_true rfl) (Nat.le_of_ble_eq_true rfl)) ?_
  refine j_aload_n C dX17_sees_9 rfl rfl ?_
  refine j_iload_n C dX17_sees_10 rfl rfl ?_
  refine j_iconst C (v := 1) dX17_sees_11 rfl ?_
  refine j_iadd C dX17_sees_12 ?_
  obtain ⟨q5, g6, h⟩ := ob h
  obtain ⟨v8, T9, e7, h⟩ := ob2 h
  refine jx_SU (As := [.int (p1 + 1)]) hκ C (mt_k17_16_sees hκ G e7) (lw_SU9 q1340 q2233 q1208 q1341 q143 q1342) (N := 1) ⟨by decide, by decide +kernel⟩ rfl g6 (by decide) rfl dX17_sees_13 (jfit.of (Nat.le_of_ble_eq_true rfl) (by decide) (Nat.le_of_ble_eq_true rfl) (Nat.le_of_ble_eq_true rfl) (Nat.le_of_ble_eq_true rfl)) rfl ?_
  obtain ⟨rfl, rfl⟩ := sp2 h
  exact j_iret C dX17_sees_16 (Nat.le_of_ble_eq_true rfl) (Nat.le_of_ble_eq_true rfl) ⟨rfl, rfl⟩
/-! fears -/
def k17_14_fears (T : XS) (a0 : Nat) (p1 : Int32) : Option (Int32 × XS) :=
  (getO T a0 17).bind fun q1 =>
  (x_ran T 11).bind fun T3 =>
  (getO T3 a0 17).bind fun q5 =>
  some ((p1 ^^^ (q5.2.1 0)), T3)
theorem mt_k17_14_fears {κ : jK} (hκ : jX κ) (G : Nat → Nat) {T : XS} {a0 : Nat} {p1 : Int32} {v : Int32} {T' : XS} (h : k17_14_fears T a0 p1 = some (v, T')) : jM κ yX14_fears (ws_ yX14_fears cX14_fears 2 (some .int)) 1 0 0 [.ref a0, .int p1] (wX κ G T) (fun u w' => u = some (.int v) ∧ w' = wX κ G T') := by
  rw [k17_14_fears] at h
  refine jM.of (by decide) rfl (Nat.le_of_ble_eq_true rfl) fun Γ C _ => ?_
  show J κ Γ (1, 0, 0, (fun u w' => u = some (.int v) ∧ w' = wX κ G T')) 2 (wX κ G T) 0 0 0 [some (.ref a0), some (.int p1)] []
  refine j_aload_n C dX14_fears_0 rfl rfl ?_
  obtain ⟨q1, g2, h⟩ := ob h
  refine jx_gt17 hκ C g2 1 (by decide) rfl q1176 dX14_fears_1 ?_
  refine j_bipush C (v := 11) dX14_fears_4 rfl ?_
  obtain ⟨T3, e4, h⟩ := ob h
  refine jx_ran hκ C e4 q1292 dX14_fears_6 (jfit.of (Nat.le_of_ble_eq_true rfl) (by decide) (Nat.le_of_ble_eq_true rfl) (Nat.le_of_ble_eq_true rfl) (Nat.le_of_ble_eq_true rfl)) ?_
  refine j_iload_n C dX14_fears_9 rfl rfl ?_
  refine j_aload_n C dX14_fears_10 rfl rfl ?_
  obtain ⟨q5, g6, h⟩ := ob h
  refine jx_gi17 hκ C g6 0 (by decide) rfl q1175 dX14_fears_11 ?_
  refine j_ixor C dX14_fears_14 ?_
  obtain ⟨rfl, rfl⟩ := sp2 h
  exact j_iret C dX14_fears_15 (Nat.le_of_ble_eq_true rfl) (Nat.le_of_ble_eq_true rfl) ⟨rfl, rfl⟩
/-! fears -/
def k17_17_fears (T : XS) (a0 : Nat) (p1 : Int32) : Option (Int32 × XS) :=
  (getO T a0 17).bind fun q1 =>
  (x_ran T 40).bind fun T3 =>
  (getO T3 a0 17).bind fun q5 =>
  b2 (k17_14_fears T3 a0 p1) fun v8 T9 =>
  some ((v8 * 3), T9)
theorem mt_k17_17_fears {κ : jK} (hκ : jX κ) (G : Nat → Nat) {T : XS} {a0 : Nat} {p1 : Int32} {v : Int32} {T' : XS} (h : k17_17_fears T a0 p1 = some (v, T')) : jM κ yX17_fears (ws_ yX17_fears cX17_fears 2 (some .int)) 2 0 0 [.ref a0, .int p1] (wX κ G T) (fun u w' => u = some (.int v) ∧ w' = wX κ G T') := by
  rw [k17_17_fears] at h
  refine jM.of (by decide) rfl (Nat.le_of_ble_eq_true rfl) fun Γ C _ => ?_
  show J κ Γ (2, 0, 0, (fun u w' => u = some (.int v) ∧ w' = wX κ G T')) 2 (wX κ G T) 0 0 0 [some (.ref a0), some (.int p1)] []
  refine j_aload_n C dX17_fears_0 rfl rfl ?_
  obtain ⟨q1, g2, h⟩ := ob h
  refine jx_gt17 hκ C g2 3 (by decide) rfl q1202 dX17_fears_1 ?_
  refine j_bipush C (v := 40) dX17_fears_4 rfl ?_
  obtain ⟨T3, e4, h⟩ := ob h
  refine jx_ran hκ C e4 q1339 dX17_fears_6 (jfit.of (Nat.le_of_ble_eq_true rfl) (by decide) (Nat.le_of_ble_eq_true rfl) (Nat.le_of_ble_eq_true rfl) (Nat.le_of_ble_eq_true rfl)) ?_
  refine j_aload_n C dX17_fears_9 rfl rfl ?_
  refine j_iload_n C dX17_fears_10 rfl rfl ?_
  obtain ⟨q5, g6, h⟩ := ob h
  obtain ⟨v8, T9, e7, h⟩ := ob2 h
  refine jx_SU2 (As := [.int p1]) hκ C (mt_k17_14_fears hκ G e7) (xc := "NineKeysRound$Lamp") ⟨q1377, q1378, q1208, (Or.inl q1195), q1366, q141, q1367, by decide⟩ (N := 1) (by decide +kernel) rfl g6 (by decide) rfl dX17_fears_11 (jfit.of (Nat.le_of_ble_eq_true rfl) (by decide) (Nat.le_of_ble_eq_true rfl) (Nat.le_of_ble_eq_true rfl) (Nat.le_of_ble_eq_true rfl)) rfl ?_
  refine j_iconst C (v := 3) dX17_fears_14 rfl ?_
  refine j_imul C dX17_fears_15 ?_
  obtain ⟨rfl, rfl⟩ := sp2 h
  exact j_iret C dX17_fears_16 (Nat.le_of_ble_eq_true rfl) (Nat.le_of_ble_eq_true rfl) ⟨rfl, rfl⟩
/-! tells -/
def k17_14_tells (T : XS) (a0 : Nat) (p1 : Int32) : Option (Int32 × XS) :=
  (getO T a0 17).bind fun q1 =>
  (x_ran T 2).bind fun T3 =>
  (getO T3 a0 17).bind fun q5 =>
  b2 (k17_17_sees T3 a0 p1) fun v8 T9 =>
  (getO T9 a0 17).bind fun q10 =>
  b2 (k17_17_fears T9 a0 1) fun v13 T14 =>
  some ((v8 - v13), T14)
theorem mt_k17_14_tells {κ : jK} (hκ : jX κ) (G : Nat → Nat) {T : XS} {a0 : Nat} {p1 : Int32} {v : Int32} {T' : XS} (h : k17_14_tells T a0 p1 = some (v, T')) : jM κ yX14_tells (ws_ yX14_tells cX14_tells 3 (some .int)) 5 0 0 [.ref a0, .int p1] (wX κ G T) (fun u w' => u = some (.int v) ∧ w' = wX κ G T') := by
  rw [k17_14_tells] at h
  refine jM.of (by decide) rfl (Nat.le_of_ble_eq_true rfl) fun Γ C _ => ?_
  show J κ Γ (5, 0, 0, (fun u w' => u = some (.int v) ∧ w' = wX κ G T')) 3 (wX κ G T) 0 0 0 [some (.ref a0), some (.int p1), none] []
  refine j_aload_n C dX14_tells_0 rfl rfl ?_
  obtain ⟨q1, g2, h⟩ := ob h
  refine jx_gt17 hκ C g2 1 (by decide) rfl q1176 dX14_tells_1 ?_
  refine j_iconst C (v := 2) dX14_tells_4 rfl ?_
  obtain ⟨T3, e4, h⟩ := ob h
  refine jx_ran hκ C e4 q1292 dX14_tells_5 (jfit.of (Nat.le_of_ble_eq_true rfl) (by decide) (Nat.le_of_ble_eq_true rfl) (Nat.le_of_ble_eq_true rfl) (Nat.le_of_ble_eq_true rfl)) ?_
  refine j_aload_n C dX14_tells_8 rfl rfl ?_
  refine j_iload_n C dX14_tells_9 rfl rfl ?_
  obtain ⟨q5, g6, h⟩ := ob h
  obtain ⟨v8, T9, e7, h⟩ := ob2 h
  refine jx_U (As := [.int p1]) hκ C (mt_k17_17_sees hκ G e7) ⟨q1330, q1333, q1336, q1337, q144, q1338, (Or.inl q1355), by decide, by decide⟩ (N := 1) (by decide +kernel) rfl g6 (by decide) rfl rfl dX14_tells_10 (jfit.of (Nat.le_of_ble_eq_true rfl) (by decide) (Nat.le_of_ble_eq_true rfl) (Nat.le_of_ble_eq_true rfl) (Nat.le_of_ble_eq_true rfl)) rfl ?_
  refine j_istore_n C dX14_tells_13 rfl (by decide) rfl ?_
  refine j_iload_n C dX14_tells_14 rfl rfl ?_
  refine j_aload_n C dX14_tells_15 rfl rfl ?_
  refine j_iconst C (v := 1) dX14_tells_16 rfl ?_
  obtain ⟨q10, g11, h⟩ := ob h
  obtain ⟨v13, T14, e12, h⟩ := ob2 h
  refine jx_U (As := [.int 1]) hκ C (mt_k17_17_fears hκ G e12) ⟨q1374, q2242, q2245, q1375, q144, q1376, (Or.inl q1365), by decide, by decide⟩ (N := 1) (by decide +kernel) rfl g11 (by decide) rfl rfl dX14_tells_17 (jfit.of (Nat.le_of_ble_eq_true rfl) (by decide) (Nat.le_of_ble_eq_true rfl) (Nat.le_of_ble_eq_true rfl) (Nat.le_of_ble_eq_true rfl)) rfl ?_
  refine j_isub C dX14_tells_20 ?_
  obtain ⟨rfl, rfl⟩ := sp2 h
  exact j_iret C dX14_tells_21 (Nat.le_of_ble_eq_true rfl) (Nat.le_of_ble_eq_true rfl) ⟨rfl, rfl⟩
/-! kind -/
def k17_17_kind (T : XS) (a0 : Nat) : Option Int32 :=
  some 3
theorem mt_k17_17_kind {κ : jK} (hκ : jX κ) (G : Nat → Nat) {T : XS} {a0 : Nat} {v : Int32} (h : k17_17_kind T a0 = some v) : jM κ yX17_kind (ws_ yX17_kind cX17_kind 1 (some .int)) 1 0 0 [.ref a0] (wX κ G T) (fun u w' => u = some (.int v) ∧ w' = wX κ G T) := by
  rw [k17_17_kind] at h
  refine jM.of (by decide) rfl (Nat.le_of_ble_eq_true rfl) fun Γ C _ => ?_
  show J κ Γ (1, 0, 0, (fun u w' => u = some (.int v) ∧ w' = wX κ G T)) 1 (wX κ G T) 0 0 0 [some (.ref a0)] []
  refine j_iconst C (v := 3) dX17_kind_0 rfl ?_
  obtain rfl := sp1 h
  exact j_iret C dX17_kind_1 (Nat.le_of_ble_eq_true rfl) (Nat.le_of_ble_eq_true rfl) ⟨rfl, rfl⟩
/-! isUnder -/
def k17_14_isUnder (T : XS) (a0 : Nat) (p1 : Int32) : Option Bool :=
  (if p1 = 0 then
  some true
  else
  (getO T a0 17).bind fun q1 =>
  (k17_17_kind T a0).bind fun v4 =>
  (if p1 = v4 then
  some true
  else
  some false))
theorem mt_k17_14_isUnder {κ : jK} (hκ : jX κ) (G : Nat → Nat) {T : XS} {a0 : Nat} {p1 : Int32} {v : Bool} (h : k17_14_isUnder T a0 p1 = some v) : jM κ yX14_isUnder (ws_ yX14_isUnder cX14_isUnder 2 (some .boolean)) 2 0 0 [.ref a0, .int p1] (wX κ G T) (fun u w' => u = some (.int (b2i v)) ∧ w' = wX κ G T) := by
  rw [k17_14_isUnder] at h
  refine jM.of (by decide) rfl (Nat.le_of_ble_eq_true rfl) fun Γ C _ => ?_
  show J κ Γ (2, 0, 0, (fun u w' => u = some (.int (b2i v)) ∧ w' = wX κ G T)) 2 (wX κ G T) 0 0 0 [some (.ref a0), some (.int p1)] []
  refine j_iload_n C dX14_isUnder_0 rfl rfl ?_
  refine j_if_eq C dX14_isUnder_1 (tgt := 12) (by decide) (fun c => ?_) (fun c => ?_)
  · replace h := ip c h
    refine j_iconst C (v := 1) dX14_isUnder_12 rfl ?_
    refine j_goto C dX14_isUnder_13 (tgt := 17) (by decide) ?_
    obtain rfl := sp1 h
    exact j_zret C rfl dX14_isUnder_17 (Nat.le_of_ble_eq_true rfl) (Nat.le_of_ble_eq_true rfl) ⟨rfl, rfl⟩
  replace h := im c h
  refine j_iload_n C dX14_isUnder_4 rfl rfl ?_
  refine j_aload_n C dX14_isUnder_5 rfl rfl ?_
  obtain ⟨q1, g2, h⟩ := ob h
  obtain ⟨v4, e3, h⟩ := ob h
  refine jx_U (As := []) hκ C (mt_k17_17_kind hκ G e3) ⟨q1585, q1588, q1595, q1596, q144, q1597, (Or.inr ⟨q1586, _, _, _, q1610⟩), by decide, by decide⟩ (N := 0) (by decide +kernel) rfl g2 (by decide) rfl rfl dX14_isUnder_6 (jfit.of (Nat.le_of_ble_eq_true rfl) (by decide) (Nat.le_of_ble_eq_true rfl) (Nat.le_of_ble_eq_true rfl) (Nat.le_of_ble_eq_true rfl)) rfl ?_
  refine j_icmp_ne C dX14_isUnder_9 (tgt := 16) (by decide) (fun c => ?_) (fun c => ?_)
  · replace h := im c h
    refine j_iconst C (v := 0) dX14_isUnder_16 rfl ?_
    obtain rfl := sp1 h
    exact j_zret C rfl dX14_isUnder_17 (Nat.le_of_ble_eq_true rfl) (Nat.le_of_ble_eq_true rfl) ⟨rfl, rfl⟩
  replace h := ip c h
  refine j_iconst C (v := 1) dX14_isUnder_12 rfl ?_
  refine j_goto C dX14_isUnder_13 (tgt := 17) (by decide) ?_
  obtain rfl := sp1 h
  exact j_zret C rfl dX14_isUnder_17 (Nat.le_of_ble_eq_true rfl) (Nat.le_of_ble_eq_true rfl) ⟨rfl, rfl⟩
/-! isUnder -/
def k17_16_isUnder (T : XS) (a0 : Nat) (p1 : Int32) : Option Bool :=
  (if p1 = 2 then
  some true
  else
  (getO T a0 17).bind fun q1 =>
  (k17_14_isUnder T a0 p1).bind fun v4 =>
  (if (b2i v4) = 0 then
  some false
  else
  some true))
theorem mt_k17_16_isUnder {κ : jK} (hκ : jX κ) (G : Nat → Nat) {T : XS} {a0 : Nat} {p1 : Int32} {v : Bool} (h : k17_16_isUnder T a0 p1 = some v) : jM κ yX16_isUnder (ws_ yX16_isUnder cX16_isUnder 2 (some .boolean)) 3 0 0 [.ref a0, .int p1] (wX κ G T) (fun u w' => u = some (.int (b2i v)) ∧ w' = wX κ G T) := by
  rw [k17_16_isUnder] at h
  refine jM.of (by decide) rfl (Nat.le_of_ble_eq_true rfl) fun Γ C _ => ?_
  show J κ Γ (3, 0, 0, (fun u w' => u = some (.int (b2i v)) ∧ w' = wX κ G T)) 2 (wX κ G T) 0 0 0 [some (.ref a0), some (.int p1)] []
  refine j_iload_n C dX16_isUnder_0 rfl rfl ?_
  refine j_iconst C (v := 2) dX16_isUnder_1 rfl ?_
  refine j_icmp_eq C dX16_isUnder_2 (tgt := 13) (by decide) (fun c => ?_) (fun c => ?_)
  · replace h := ip c h
    refine j_iconst C (v := 1) dX16_isUnder_13 rfl ?_
    refine j_goto C dX16_isUnder_14 (tgt := 18) (by decide) ?_
    obtain rfl := sp1 h
    exact j_zret C rfl dX16_isUnder_18 (Nat.le_of_ble_eq_true rfl) (Nat.le_of_ble_eq_true rfl) ⟨rfl, rfl⟩
  replace h := im c h
  refine j_aload_n C dX16_isUnder_5 rfl rfl ?_
  refine j_iload_n C dX16_isUnder_6 rfl rfl ?_
  obtain ⟨q1, g2, h⟩ := ob h
  obtain ⟨v4, e3, h⟩ := ob h
  refine jx_SU (As := [.int p1]) hκ C (mt_k17_14_isUnder hκ G e3) (lw_SU9 q1618 q1579 q1195 q1577 q141 q1584) (N := 1) ⟨by decide, by decide +kernel⟩ rfl g2 (by decide) rfl dX16_isUnder_7 (jfit.of (Nat.le_of_ble_eq_true rfl) (by decide) (Nat.le_of_ble_eq_true rfl) (Nat.le_of_ble_eq_true rfl) (Nat.le_of_ble_eq_true rfl)) rfl ?_
  refine j_if_eq C dX16_isUnder_10 (tgt := 17) (by decide) (fun c => ?_) (fun c => ?_)
  · replace h := ip c h
    refine j_iconst C (v := 0) dX16_isUnder_17 rfl ?_
    obtain rfl := sp1 h
    exact j_zret C rfl dX16_isUnder_18 (Nat.le_of_ble_eq_true rfl) (Nat.le_of_ble_eq_true rfl) ⟨rfl, rfl⟩
  replace h := im c h
  refine j_iconst C (v := 1) dX16_isUnder_13 rfl ?_
  refine j_goto C dX16_isUnder_14 (tgt := 18) (by decide) ?_
  obtain rfl := sp1 h
  exact j_zret C rfl dX16_isUnder_18 (Nat.le_of_ble_eq_true rfl) (Nat.le_of_ble_eq_true rfl) ⟨rfl, rfl⟩
/-! isUnder -/
def k17_17_isUnder (T : XS) (a0 : Nat) (p1 : Int32) : Option Bool :=
  (if p1 = 3 then
  some true
  else
  (getO T a0 17).bind fun q1 =>
  (k17_16_isUnder T a0 p1).bind fun v4 =>
  (if (b2i v4) = 0 then
  some false
  else
  some true))
theorem mt_k17_17_isUnder {κ : jK} (hκ : jX κ) (G : Nat → Nat) {T : XS} {a0 : Nat} {p1 : Int32} {v : Bool} (h : k17_17_isUnder T a0 p1 = some v) : jM κ yX17_isUnder (ws_ yX17_isUnder cX17_isUnder 2 (some .boolean)) 4 0 0 [.ref a0, .int p1] (wX κ G T) (fun u w' => u = some (.int (b2i v)) ∧ w' = wX κ G T) := by
  rw [k17_17_isUnder] at h
  refine jM.of (by decide) rfl (Nat.le_of_ble_eq_true rfl) fun Γ C _ => ?_
  show J κ Γ (4, 0, 0, (fun u w' => u = some (.int (b2i v)) ∧ w' = wX κ G T)) 2 (wX κ G T) 0 0 0 [some (.ref a0), some (.int p1)] []
  refine j_iload_n C dX17_isUnder_0 rfl rfl ?_
  refine j_iconst C (v := 3) dX17_isUnder_1 rfl ?_
  refine j_icmp_eq C dX17_isUnder_2 (tgt := 13) (by decide) (fun c => ?_) (fun c => ?_)
  · replace h := ip c h
    refine j_iconst C (v := 1) dX17_isUnder_13 rfl ?_
    refine j_goto C dX17_isUnder_14 (tgt := 18) (by decide) ?_
    obtain rfl := sp1 h
    exact j_zret C rfl dX17_isUnder_18 (Nat.le_of_ble_eq_true rfl) (Nat.le_of_ble_eq_true rfl) ⟨rfl, rfl⟩
  replace h := im c h
  refine j_aload_n C dX17_isUnder_5 rfl rfl ?_
  refine j_iload_n C dX17_isUnder_6 rfl rfl ?_
  obtain ⟨q1, g2, h⟩ := ob h
  obtain ⟨v4, e3, h⟩ := ob h
  refine jx_SU (As := [.int p1]) hκ C (mt_k17_16_isUnder hκ G e3) (lw_SU9 q1615 q2251 q1208 q1616 q143 q1617) (N := 1) ⟨by decide, by decide +kernel⟩ rfl g2 (by decide) rfl dX17_isUnder_7 (jfit.of (Nat.le_of_ble_eq_true rfl) (by decide) (Nat.le_of_ble_eq_true rfl) (Nat.le_of_ble_eq_true rfl) (Nat.le_of_ble_eq_true rfl)) rfl ?_
  refine j_if_eq C dX17_isUnder_10 (tgt := 17) (by decide) (fun c => ?_) (fun c => ?_)
  · replace h := ip c h
    refine j_iconst C (v := 0) dX17_isUnder_17 rfl ?_
    obtain rfl := sp1 h
    exact j_zret C rfl dX17_isUnder_18 (Nat.le_of_ble_eq_true rfl) (Nat.le_of_ble_eq_true rfl) ⟨rfl, rfl⟩
  replace h := im c h
  refine j_iconst C (v := 1) dX17_isUnder_13 rfl ?_
  refine j_goto C dX17_isUnder_14 (tgt := 18) (by decide) ?_
  obtain rfl := sp1 h
  exact j_zret C rfl dX17_isUnder_18 (Nat.le_of_ble_eq_true rfl) (Nat.le_of_ble_eq_true rfl) ⟨rfl, rfl⟩
/-! turnsIn -/
def k18_14_turnsIn (T : XS) (a0 : Nat) (p1 : Int32) : Option (Int32 × XS) :=
  (getO T a0 18).bind fun q1 =>
  (x_ran T 1).bind fun T3 =>
  (getO T3 a0 18).bind fun q5 =>
  some ((p1 + (q5.2.1 0)), T3)
theorem mt_k18_14_turnsIn {κ : jK} (hκ : jX κ) (G : Nat → Nat) {T : XS} {a0 : Nat} {p1 : Int32} {v : Int32} {T' : XS} (h : k18_14_turnsIn T a0 p1 = some (v, T')) : jM κ yX14_turnsIn (ws_ yX14_turnsIn cX14_turnsIn 2 (some .int)) 1 0 0 [.ref a0, .int p1] (wX κ G T) (fun u w' => u = some (.int v) ∧ w' = wX κ G T') := by
  rw [k18_14_turnsIn] at h
  refine jM.of (by decide) rfl (Nat.le_of_ble_eq_true rfl) fun Γ C _ => ?_
  show J κ Γ (1, 0, 0, (fun u w' => u = some (.int v) ∧ w' = wX κ G T')) 2 (wX κ G T) 0 0 0 [some (.ref a0), some (.int p1)] []
  refine j_aload_n C dX14_turnsIn_0 rfl rfl ?_
  obtain ⟨q1, g2, h⟩ := ob h
  refine jx_gt18 hκ C g2 1 (by decide) rfl q1176 dX14_turnsIn_1 ?_
  refine j_iconst C (v := 1) dX14_turnsIn_4 rfl ?_
  obtain ⟨T3, e4, h⟩ := ob h
  refine jx_ran hκ C e4 q1292 dX14_turnsIn_5 (jfit.of (Nat.le_of_ble_eq_true rfl) (by decide) (Nat.le_of_ble_eq_true rfl) (Nat.le_of_ble_eq_true rfl) (Nat.le_of_ble_eq_true rfl)) ?_
  refine j_iload_n C dX14_turnsIn_8 rfl rfl ?_
  refine j_aload_n C dX14_turnsIn_9 rfl rfl ?_
  obtain ⟨q5, g6, h⟩ := ob h
  refine jx_gi18 hκ C g6 0 (by decide) rfl q1175 dX14_turnsIn_10 ?_
  refine j_iadd C dX14_turnsIn_13 ?_
  obtain ⟨rfl, rfl⟩ := sp2 h
  exact j_iret C dX14_turnsIn_14 (Nat.le_of_ble_eq_true rfl) (Nat.le_of_ble_eq_true rfl) ⟨rfl, rfl⟩
/-! turnsIn -/
def k18_15_turnsIn (T : XS) (a0 : Nat) (p1 : Int32) : Option (Int32 × XS) :=
  (getO T a0 18).bind fun q1 =>
  (x_ran T 20).bind fun T3 =>
  (getO T3 a0 18).bind fun q5 =>
  b2 (k18_14_turnsIn T3 a0 p1) fun v8 T9 =>
  some ((v8 + 3), T9)
theorem mt_k18_15_turnsIn {κ : jK} (hκ : jX κ) (G : Nat → Nat) {T : XS} {a0 : Nat} {p1 : Int32} {v : Int32} {T' : XS} (h : k18_15_turnsIn T a0 p1 = some (v, T')) : jM κ yX15_turnsIn (ws_ yX15_turnsIn cX15_turnsIn 2 (some .int)) 2 0 0 [.ref a0, .int p1] (wX κ G T) (fun u w' => u = some (.int v) ∧ w' = wX κ G T') := by
  rw [k18_15_turnsIn] at h
  refine jM.of (by decide) rfl (Nat.le_of_ble_eq_true rfl) fun Γ C _ => ?_
  show J κ Γ (2, 0, 0, (fun u w' => u = some (.int v) ∧ w' = wX κ G T')) 2 (wX κ G T) 0 0 0 [some (.ref a0), some (.int p1)] []
  refine j_aload_n C dX15_turnsIn_0 rfl rfl ?_
  obtain ⟨q1, g2, h⟩ := ob h
  refine jx_gt18 hκ C g2 2 (by decide) rfl q1174 dX15_turnsIn_1 ?_
  refine j_bipush C (v := 20) dX15_turnsIn_4 rfl ?_
  obtain ⟨T3, e4, h⟩ := ob h
  refine jx_ran hκ C e4 q1285 dX15_turnsIn_6 (jfit.of (Nat.le_of_ble_eq_true rfl) (by decide) (Nat.le_of_ble_eq_true rfl) (Nat.le_of_ble_eq_true rfl) (Nat.le_of_ble_eq_true rfl)) ?_
  refine j_aload_n C dX15_turnsIn_9 rfl rfl ?_
  refine j_iload_n C dX15_turnsIn_10 rfl rfl ?_
  obtain ⟨q5, g6, h⟩ := ob h
  obtain ⟨v8, T9, e7, h⟩ := ob2 h
  refine jx_SU (As := [.int p1]) hκ C (mt_k18_14_turnsIn hκ G e7) (lw_SU9 q1289 q2232 q1183 q1290 q141 q1291) (N := 1) ⟨by decide, by decide +kernel⟩ rfl g6 (by decide) rfl dX15_turnsIn_11 (jfit.of (Nat.le_of_ble_eq_true rfl) (by decide) (Nat.le_of_ble_eq_true rfl) (Nat.le_of_ble_eq_true rfl) (Nat.le_of_ble_eq_true rfl)) rfl ?_
  refine j_iconst C (v := 3) dX15_turnsIn_14 rfl ?_
  refine j_iadd C dX15_turnsIn_15 ?_
  obtain ⟨rfl, rfl⟩ := sp2 h
  exact j_iret C dX15_turnsIn_16 (Nat.le_of_ble_eq_true rfl) (Nat.le_of_ble_eq_true rfl) ⟨rfl, rfl⟩
/-! sees -/
def k18_14_sees (T : XS) (a0 : Nat) (p1 : Int32) : Option (Int32 × XS) :=
  (getO T a0 18).bind fun q1 =>
  (x_ran T 10).bind fun T3 =>
  (getO T3 a0 18).bind fun q5 =>
  b2 (k18_15_turnsIn T3 a0 p1) fun v8 T9 =>
  some ((v8 * 2), T9)
theorem mt_k18_14_sees {κ : jK} (hκ : jX κ) (G : Nat → Nat) {T : XS} {a0 : Nat} {p1 : Int32} {v : Int32} {T' : XS} (h : k18_14_sees T a0 p1 = some (v, T')) : jM κ yX14_sees (ws_ yX14_sees cX14_sees 2 (some .int)) 3 0 0 [.ref a0, .int p1] (wX κ G T) (fun u w' => u = some (.int v) ∧ w' = wX κ G T') := by
  rw [k18_14_sees] at h
  refine jM.of (by decide) rfl (Nat.le_of_ble_eq_true rfl) fun Γ C _ => ?_
  show J κ Γ (3, 0, 0, (fun u w' => u = some (.int v) ∧ w' = wX κ G T')) 2 (wX κ G T) 0 0 0 [some (.ref a0), some (.int p1)] []
  refine j_aload_n C dX14_sees_0 rfl rfl ?_
  obtain ⟨q1, g2, h⟩ := ob h
  refine jx_gt18 hκ C g2 1 (by decide) rfl q1176 dX14_sees_1 ?_
  refine j_bipush C (v := 10) dX14_sees_4 rfl ?_
  obtain ⟨T3, e4, h⟩ := ob h
  refine jx_ran hκ C e4 q1292 dX14_sees_6 (jfit.of (Nat.le_of_ble_eq_true rfl) (by decide) (Nat.le_of_ble_eq_true rfl) (Nat.le_of_ble_eq_true rfl) (Nat.le_of_ble_eq_true rfl)) ?_
  refine j_aload_n C dX14_sees_9 rfl rfl ?_
  refine j_iload_n C dX14_sees_10 rfl rfl ?_
  obtain ⟨q5, g6, h⟩ := ob h
  obtain ⟨v8, T9, e7, h⟩ := ob2 h
  refine jx_U (As := [.int p1]) hκ C (mt_k18_15_turnsIn hκ G e7) ⟨q1346, q2232, q2239, q1282, q142, q1284, (Or.inr ⟨q1290, _, _, _, q1291⟩), by decide, by decide⟩ (N := 1) (by decide +kernel) rfl g6 (by decide) rfl rfl dX14_sees_11 (jfit.of (Nat.le_of_ble_eq_true rfl) (by decide) (Nat.le_of_ble_eq_true rfl) (Nat.le_of_ble_eq_true rfl) (Nat.le_of_ble_eq_true rfl)) rfl ?_
  refine j_iconst C (v := 2) dX14_sees_14 rfl ?_
  refine j_imul C dX14_sees_15 ?_
  obtain ⟨rfl, rfl⟩ := sp2 h
  exact j_iret C dX14_sees_16 (Nat.le_of_ble_eq_true rfl) (Nat.le_of_ble_eq_true rfl) ⟨rfl, rfl⟩
/-! fears -/
def k18_14_fears (T : XS) (a0 : Nat) (p1 : Int32) : Option (Int32 × XS) :=
  (getO T a0 18).bind fun q1 =>
  (x_ran T 11).bind fun T3 =>
  (getO T3 a0 18).bind fun q5 =>
  some ((p1 ^^^ (q5.2.1 0)), T3)
theorem mt_k18_14_fears {κ : jK} (hκ : jX κ) (G : Nat → Nat) {T : XS} {a0 : Nat} {p1 : Int32} {v : Int32} {T' : XS} (h : k18_14_fears T a0 p1 = some (v, T')) : jM κ yX14_fears (ws_ yX14_fears cX14_fears 2 (some .int)) 1 0 0 [.ref a0, .int p1] (wX κ G T) (fun u w' => u = some (.int v) ∧ w' = wX κ G T') := by
  rw [k18_14_fears] at h
  refine jM.of (by decide) rfl (Nat.le_of_ble_eq_true rfl) fun Γ C _ => ?_
  show J κ Γ (1, 0, 0, (fun u w' => u = some (.int v) ∧ w' = wX κ G T')) 2 (wX κ G T) 0 0 0 [some (.ref a0), some (.int p1)] []
  refine j_aload_n C dX14_fears_0 rfl rfl ?_
  obtain ⟨q1, g2, h⟩ := ob h
  refine jx_gt18 hκ C g2 1 (by decide) rfl q1176 dX14_fears_1 ?_
  refine j_bipush C (v := 11) dX14_fears_4 rfl ?_
  obtain ⟨T3, e4, h⟩ := ob h
  refine jx_ran hκ C e4 q1292 dX14_fears_6 (jfit.of (Nat.le_of_ble_eq_true rfl) (by decide) (Nat.le_of_ble_eq_true rfl) (Nat.le_of_ble_eq_true rfl) (Nat.le_of_ble_eq_true rfl)) ?_
  refine j_iload_n C dX14_fears_9 rfl rfl ?_
  refine j_aload_n C dX14_fears_10 rfl rfl ?_
  obtain ⟨q5, g6, h⟩ := ob h
  refine jx_gi18 hκ C g6 0 (by decide) rfl q1175 dX14_fears_11 ?_
  refine j_ixor C dX14_fears_14 ?_
  obtain ⟨rfl, rfl⟩ := sp2 h
  exact j_iret C dX14_fears_15 (Nat.le_of_ble_eq_true rfl) (Nat.le_of_ble_eq_true rfl) ⟨rfl, rfl⟩
/-! fears -/
def k18_18_fears (T : XS) (a0 : Nat) (p1 : Int32) : Option (Int32 × XS) :=
  (getO T a0 18).bind fun q1 =>
  (x_ran T 50).bind fun T3 =>
  (getO T3 a0 18).bind fun q5 =>
  b2 (k18_14_fears T3 a0 p1) fun v8 T9 =>
  (getO T9 a0 18).bind fun q10 =>
  b2 (k18_15_turnsIn T9 a0 2) fun v13 T14 =>
  some ((v8 - v13), T14)
theorem mt_k18_18_fears {κ : jK} (hκ : jX κ) (G : Nat → Nat) {T : XS} {a0 : Nat} {p1 : Int32} {v : Int32} {T' : XS} (h : k18_18_fears T a0 p1 = some (v, T')) : jM κ yX18_fears (ws_ yX18_fears cX18_fears 3 (some .int)) 3 0 0 [.ref a0, .int p1] (wX κ G T) (fun u w' => u = some (.int v) ∧ w' = wX κ G T') := by
  rw [k18_18_fears] at h
  refine jM.of (by decide) rfl (Nat.le_of_ble_eq_true rfl) fun Γ C _ => ?_
  show J κ Γ (3, 0, 0, (fun u w' => u = some (.int v) ∧ w' = wX κ G T')) 3 (wX κ G T) 0 0 0 [some (.ref a0), some (.int p1), none] []
  refine j_aload_n C dX18_fears_0 rfl rfl ?_
  obtain ⟨q1, g2, h⟩ := ob h
  refine jx_gt18 hκ C g2 3 (by decide) rfl q1215 dX18_fears_1 ?_
  refine j_bipush C (v := 50) dX18_fears_4 rfl ?_
  obtain ⟨T3, e4, h⟩ := ob h
  refine jx_ran hκ C e4 q1362 dX18_fears_6 (jfit.of (Nat.le_of_ble_eq_true rfl) (by decide) (Nat.le_of_ble_eq_true rfl) (Nat.le_of_ble_eq_true rfl) (Nat.le_of_ble_eq_true rfl)) ?_
  refine j_aload_n C dX18_fears_9 rfl rfl ?_
  refine j_iload_n C dX18_fears_10 rfl rfl ?_
  obtain ⟨q5, g6, h⟩ := ob h
  obtain ⟨v8, T9, e7, h⟩ := ob2 h
  refine jx_SU2 (As := [.int p1]) hκ C (mt_k18_14_fears hκ G e7) (xc := "NineKeysRound$Dent") ⟨q1363, q1364, q1221, (Or.inl q1183), q1366, q141, q1367, by decide⟩ (N := 1) (by decide +kernel) rfl g6 (by decide) rfl dX18_fears_11 (jfit.of (Nat.le_of_ble_eq_true rfl) (by decide) (Nat.le_of_ble_eq_true rfl) (Nat.le_of_ble_eq_true rfl) (Nat.le_of_ble_eq_true rfl)) rfl ?_
  refine j_istore_n C dX18_fears_14 rfl (by decide) rfl ?_
  refine j_iload_n C dX18_fears_15 rfl rfl ?_
  refine j_aload_n C dX18_fears_16 rfl rfl ?_
  refine j_iconst C (v := 2) dX18_fears_17 rfl ?_
  obtain ⟨q10, g11, h⟩ := ob h
  obtain ⟨v13, T14, e12, h⟩ := ob2 h
  refine jx_U (As := [.int 2]) hκ C (mt_k18_15_turnsIn hκ G e12) ⟨q1368, q1369, q1371, q1282, q142, q1284, (Or.inl q1370), by decide, by decide⟩ (N := 1) (by decide +kernel) rfl g11 (by decide) rfl rfl dX18_fears_18 (jfit.of (Nat.le_of_ble_eq_true rfl) (by decide) (Nat.le_of_ble_eq_true rfl) (Nat.le_of_ble_eq_true rfl) (Nat.le_of_ble_eq_true rfl)) rfl ?_
  refine j_isub C dX18_fears_21 ?_
  obtain ⟨rfl, rfl⟩ := sp2 h
  exact j_iret C dX18_fears_22 (Nat.le_of_ble_eq_true rfl) (Nat.le_of_ble_eq_true rfl) ⟨rfl, rfl⟩
/-! tells -/
def k18_14_tells (T : XS) (a0 : Nat) (p1 : Int32) : Option (Int32 × XS) :=
  (getO T a0 18).bind fun q1 =>
  (x_ran T 2).bind fun T3 =>
  (getO T3 a0 18).bind fun q5 =>
  b2 (k18_14_sees T3 a0 p1) fun v8 T9 =>
  (getO T9 a0 18).bind fun q10 =>
  b2 (k18_18_fears T9 a0 1) fun v13 T14 =>
  some ((v8 - v13), T14)
theorem mt_k18_14_tells {κ : jK} (hκ : jX κ) (G : Nat → Nat) {T : XS} {a0 : Nat} {p1 : Int32} {v : Int32} {T' : XS} (h : k18_14_tells T a0 p1 = some (v, T')) : jM κ yX14_tells (ws_ yX14_tells cX14_tells 3 (some .int)) 4 0 0 [.ref a0, .int p1] (wX κ G T) (fun u w' => u = some (.int v) ∧ w' = wX κ G T') := by
  rw [k18_14_tells] at h
  refine jM.of (by decide) rfl (Nat.le_of_ble_eq_true rfl) fun Γ C _ => ?_
  show J κ Γ (4, 0, 0, (fun u w' => u = some (.int v) ∧ w' = wX κ G T')) 3 (wX κ G T) 0 0 0 [some (.ref a0), some (.int p1), none] []
  refine j_aload_n C dX14_tells_0 rfl rfl ?_
  obtain ⟨q1, g2, h⟩ := ob h
  refine jx_gt18 hκ C g2 1 (by decide) rfl q1176 dX14_tells_1 ?_
  refine j_iconst C (v := 2) dX14_tells_4 rfl ?_
  obtain ⟨T3, e4, h⟩ := ob h
  refine jx_ran hκ C e4 q1292 dX14_tells_5 (jfit.of (Nat.le_of_ble_eq_true rfl) (by decide) (Nat.le_of_ble_eq_true rfl) (Nat.le_of_ble_eq_true rfl) (Nat.le_of_ble_eq_true rfl)) ?_
  refine j_aload_n C dX14_tells_8 rfl rfl ?_
  refine j_iload_n C dX14_tells_9 rfl rfl ?_
  obtain ⟨q5, g6, h⟩ := ob h
  obtain ⟨v8, T9, e7, h⟩ := ob2 h
  refine jx_U (As := [.int p1]) hκ C (mt_k18_14_sees hκ G e7) ⟨q1330, q1333, q1348, q1331, q141, q1345, (Or.inl q1355), by decide, by decide⟩ (N := 1) (by decide +kernel) rfl g6 (by decide) rfl rfl dX14_tells_10 (jfit.of (Nat.le_of_ble_eq_true rfl) (by decide) (Nat.le_of_ble_eq_true rfl) (Nat.le_of_ble_eq_true rfl) (Nat.le_of_ble_eq_true rfl)) rfl ?_
  refine j_istore_n C dX14_tells_13 rfl (by decide) rfl ?_
  refine j_iload_n C dX14_tells_14 rfl rfl ?_
  refine j_aload_n C dX14_tells_15 rfl rfl ?_
  refine j_iconst C (v := 1) dX14_tells_16 rfl ?_
  obtain ⟨q10, g11, h⟩ := ob h
  obtain ⟨v13, T14, e12, h⟩ := ob2 h
  refine jx_U (As := [.int 1]) hκ C (mt_k18_18_fears hκ G e12) ⟨q1374, q2242, q2248, q1360, q145, q1361, (Or.inl q1365), by decide, by decide⟩ (N := 1) (by decide +kernel) rfl g11 (by decide) rfl rfl dX14_tells_17 (jfit.of (Nat.le_of_ble_eq_true rfl) (by decide) (Nat.le_of_ble_eq_true rfl) (Nat.le_of_ble_eq_true rfl) (Nat.le_of_ble_eq_true rfl)) rfl ?_
  refine j_isub C dX14_tells_20 ?_
  obtain ⟨rfl, rfl⟩ := sp2 h
  exact j_iret C dX14_tells_21 (Nat.le_of_ble_eq_true rfl) (Nat.le_of_ble_eq_true rfl) ⟨rfl, rfl⟩
/-! kind -/
def k18_18_kind (T : XS) (a0 : Nat) : Option Int32 :=
  some 4
theorem mt_k18_18_kind {κ : jK} (hκ : jX κ) (G : Nat → Nat) {T : XS} {a0 : Nat} {v : Int32} (h : k18_18_kind T a0 = some v) : jM κ yX18_kind (ws_ yX18_kind cX18_kind 1 (some .int)) 1 0 0 [.ref a0] (wX κ G T) (fun u w' => u = some (.int v) ∧ w' = wX κ G T) := by
  rw [k18_18_kind] at h
  refine jM.of (by decide) rfl (Nat.le_of_ble_eq_true rfl) fun Γ C _ => ?_
  show J κ Γ (1, 0, 0, (fun u w' => u = some (.int v) ∧ w' = wX κ G T)) 1 (wX κ G T) 0 0 0 [some (.ref a0)] []
  refine j_iconst C (v := 4) dX18_kind_0 rfl ?_
  obtain rfl := sp1 h
  exact j_iret C dX18_kind_1 (Nat.le_of_ble_eq_true rfl) (Nat.le_of_ble_eq_true rfl) ⟨rfl, rfl⟩
/-! isUnder -/
def k18_14_isUnder (T : XS) (a0 : Nat) (p1 : Int32) : Option Bool :=
  (if p1 = 0 then
  some true
  else
  (getO T a0 18).bind fun q1 =>
  (k18_18_kind T a0).bind fun v4 =>
  (if p1 = v4 then
  some true
  else
  some false))
theorem mt_k18_14_isUnder {κ : jK} (hκ : jX κ) (G : Nat → Nat) {T : XS} {a0 : Nat} {p1 : Int32} {v : Bool} (h : k18_14_isUnder T a0 p1 = some v) : jM κ yX14_isUnder (ws_ yX14_isUnder cX14_isUnder 2 (some .boolean)) 2 0 0 [.ref a0, .int p1] (wX κ G T) (fun u w' => u = some (.int (b2i v)) ∧ w' = wX κ G T) := by
  rw [k18_14_isUnder] at h
  refine jM.of (by decide) rfl (Nat.le_of_ble_eq_true rfl) fun Γ C _ => ?_
  show J κ Γ (2, 0, 0, (fun u w' => u = some (.int (b2i v)) ∧ w' = wX κ G T)) 2 (wX κ G T) 0 0 0 [some (.ref a0), some (.int p1)] []
  refine j_iload_n C dX14_isUnder_0 rfl rfl ?_
  refine j_if_eq C dX14_isUnder_1 (tgt := 12) (by decide) (fun c => ?_) (fun c => ?_)
  · replace h := ip c h
    refine j_iconst C (v := 1) dX14_isUnder_12 rfl ?_
    refine j_goto C dX14_isUnder_13 (tgt := 17) (by decide) ?_
    obtain rfl := sp1 h
    exact j_zret C rfl dX14_isUnder_17 (Nat.le_of_ble_eq_true rfl) (Nat.le_of_ble_eq_true rfl) ⟨rfl, rfl⟩
  replace h := im c h
  refine j_iload_n C dX14_isUnder_4 rfl rfl ?_
  refine j_aload_n C dX14_isUnder_5 rfl rfl ?_
  obtain ⟨q1, g2, h⟩ := ob h
  obtain ⟨v4, e3, h⟩ := ob h
  refine jx_U (As := []) hκ C (mt_k18_18_kind hκ G e3) ⟨q1585, q1588, q1601, q1602, q145, q1603, (Or.inr ⟨q1586, _, _, _, q1610⟩), by decide, by decide⟩ (N := 0) (by decide +kernel) rfl g2 (by decide) rfl rfl dX14_isUnder_6 (jfit.of (Nat.le_of_ble_eq_true rfl) (by decide) (Nat.le_of_ble_eq_true rfl) (Nat.le_of_ble_eq_true rfl) (Nat.le_of_ble_eq_true rfl)) rfl ?_
  refine j_icmp_ne C dX14_isUnder_9 (tgt := 16) (by decide) (fun c => ?_) (fun c => ?_)
  · replace h := im c h
    refine j_iconst C (v := 0) dX14_isUnder_16 rfl ?_
    obtain rfl := sp1 h
    exact j_zret C rfl dX14_isUnder_17 (Nat.le_of_ble_eq_true rfl) (Nat.le_of_ble_eq_true rfl) ⟨rfl, rfl⟩
  replace h := ip c h
  refine j_iconst C (v := 1) dX14_isUnder_12 rfl ?_
  refine j_goto C dX14_isUnder_13 (tgt := 17) (by decide) ?_
  obtain rfl := sp1 h
  exact j_zret C rfl dX14_isUnder_17 (Nat.le_of_ble_eq_true rfl) (Nat.le_of_ble_eq_true rfl) ⟨rfl, rfl⟩
/-! isUnder -/
def k18_15_isUnder (T : XS) (a0 : Nat) (p1 : Int32) : Option Bool :=
  (if p1 = 1 then
  some true
  else
  (getO T a0 18).bind fun q1 =>
  (k18_14_isUnder T a0 p1).bind fun v4 =>
  (if (b2i v4) = 0 then
  some false
  else
  some true))
theorem mt_k18_15_isUnder {κ : jK} (hκ : jX κ) (G : Nat → Nat) {T : XS} {a0 : Nat} {p1 : Int32} {v : Bool} (h : k18_15_isUnder T a0 p1 = some v) : jM κ yX15_isUnder (ws_ yX15_isUnder cX15_isUnder 2 (some .boolean)) 3 0 0 [.ref a0, .int p1] (wX κ G T) (fun u w' => u = some (.int (b2i v)) ∧ w' = wX κ G T) := by
  rw [k18_15_isUnder] at h
  refine jM.of (by decide) rfl (Nat.le_of_ble_eq_true rfl) fun Γ C _ => ?_
  show J κ Γ (3, 0, 0, (fun u w' => u = some (.int (b2i v)) ∧ w' = wX κ G T)) 2 (wX κ G T) 0 0 0 [some (.ref a0), some (.int p1)] []
  refine j_iload_n C dX15_isUnder_0 rfl rfl ?_
  refine j_iconst C (v := 1) dX15_isUnder_1 rfl ?_
  refine j_icmp_eq C dX15_isUnder_2 (tgt := 13) (by decide) (fun c => ?_) (fun c => ?_)
  · replace h := ip c h
    refine j_iconst C (v := 1) dX15_isUnder_13 rfl ?_
    refine j_goto C dX15_isUnder_14 (tgt := 18) (by decide) ?_
    obtain rfl := sp1 h
    exact j_zret C rfl dX15_isUnder_18 (Nat.le_of_ble_eq_true rfl) (Nat.le_of_ble_eq_true rfl) ⟨rfl, rfl⟩
  replace h := im c h
  refine j_aload_n C dX15_isUnder_5 rfl rfl ?_
  refine j_iload_n C dX15_isUnder_6 rfl rfl ?_
  obtain ⟨q1, g2, h⟩ := ob h
  obtain ⟨v4, e3, h⟩ := ob h
  refine jx_SU (As := [.int p1]) hκ C (mt_k18_14_isUnder hκ G e3) (lw_SU9 q1583 q1579 q1183 q1577 q141 q1584) (N := 1) ⟨by decide, by decide +kernel⟩ rfl g2 (by decide) rfl dX15_isUnder_7 (jfit.of (Nat.le_of_ble_eq_true rfl) (by decide) (Nat.le_of_ble_eq_true rfl) (Nat.le_of_ble_eq_true rfl) (Nat.le_of_ble_eq_true rfl)) rfl ?_
  refine j_if_eq C dX15_isUnder_10 (tgt := 17) (by decide) (fun c => ?_) (fun c => ?_)
  · replace h := ip c h
    refine j_iconst C (v := 0) dX15_isUnder_17 rfl ?_
    obtain rfl := sp1 h
    exact j_zret C rfl dX15_isUnder_18 (Nat.le_of_ble_eq_true rfl) (Nat.le_of_ble_eq_true rfl) ⟨rfl, rfl⟩
  replace h := im c h
  refine j_iconst C (v := 1) dX15_isUnder_13 rfl ?_
  refine j_goto C dX15_isUnder_14 (tgt := 18) (by decide) ?_
  obtain rfl := sp1 h
  exact j_zret C rfl dX15_isUnder_18 (Nat.le_of_ble_eq_true rfl) (Nat.le_of_ble_eq_true rfl) ⟨rfl, rfl⟩
/-! isUnder -/
def k18_18_isUnder (T : XS) (a0 : Nat) (p1 : Int32) : Option Bool :=
  (if p1 = 4 then
  some true
  else
  (getO T a0 18).bind fun q1 =>
  (k18_15_isUnder T a0 p1).bind fun v4 =>
  (if (b2i v4) = 0 then
  some false
  else
  some true))
theorem mt_k18_18_isUnder {κ : jK} (hκ : jX κ) (G : Nat → Nat) {T : XS} {a0 : Nat} {p1 : Int32} {v : Bool} (h : k18_18_isUnder T a0 p1 = some v) : jM κ yX18_isUnder (ws_ yX18_isUnder cX18_isUnder 2 (some .boolean)) 4 0 0 [.ref a0, .int p1] (wX κ G T) (fun u w' => u = some (.int (b2i v)) ∧ w' = wX κ G T) := by
  rw [k18_18_isUnder] at h
  refine jM.of (by decide) rfl (Nat.le_of_ble_eq_true rfl) fun Γ C _ => ?_
  show J κ Γ (4, 0, 0, (fun u w' => u = some (.int (b2i v)) ∧ w' = wX κ G T)) 2 (wX κ G T) 0 0 0 [some (.ref a0), some (.int p1)] []
  refine j_iload_n C dX18_isUnder_0 rfl rfl ?_
  refine j_iconst C (v := 4) dX18_isUnder_1 rfl ?_
  refine j_icmp_eq C dX18_isUnder_2 (tgt := 13) (by decide) (fun c => ?_) (fun c => ?_)
  · replace h := ip c h
    refine j_iconst C (v := 1) dX18_isUnder_13 rfl ?_
    refine j_goto C dX18_isUnder_14 (tgt := 18) (by decide) ?_
    obtain rfl := sp1 h
    exact j_zret C rfl dX18_isUnder_18 (Nat.le_of_ble_eq_true rfl) (Nat.le_of_ble_eq_true rfl) ⟨rfl, rfl⟩
  replace h := im c h
  refine j_aload_n C dX18_isUnder_5 rfl rfl ?_
  refine j_iload_n C dX18_isUnder_6 rfl rfl ?_
  obtain ⟨q1, g2, h⟩ := ob h
  obtain ⟨v4, e3, h⟩ := ob h
  refine jx_SU (As := [.int p1]) hκ C (mt_k18_15_isUnder hκ G e3) (lw_SU9 q1623 q2252 q1221 q1581 q142 q1582) (N := 1) ⟨by decide, by decide +kernel⟩ rfl g2 (by decide) rfl dX18_isUnder_7 (jfit.of (Nat.le_of_ble_eq_true rfl) (by decide) (Nat.le_of_ble_eq_true rfl) (Nat.le_of_ble_eq_true rfl) (Nat.le_of_ble_eq_true rfl)) rfl ?_
  refine j_if_eq C dX18_isUnder_10 (tgt := 17) (by decide) (fun c => ?_) (fun c => ?_)
  · replace h := ip c h
    refine j_iconst C (v := 0) dX18_isUnder_17 rfl ?_
    obtain rfl := sp1 h
    exact j_zret C rfl dX18_isUnder_18 (Nat.le_of_ble_eq_true rfl) (Nat.le_of_ble_eq_true rfl) ⟨rfl, rfl⟩
  replace h := im c h
  refine j_iconst C (v := 1) dX18_isUnder_13 rfl ?_
  refine j_goto C dX18_isUnder_14 (tgt := 18) (by decide) ?_
  obtain rfl := sp1 h
  exact j_zret C rfl dX18_isUnder_18 (Nat.le_of_ble_eq_true rfl) (Nat.le_of_ble_eq_true rfl) ⟨rfl, rfl⟩
/-! turnsIn -/
def k19_14_turnsIn (T : XS) (a0 : Nat) (p1 : Int32) : Option (Int32 × XS) :=
  (getO T a0 19).bind fun q1 =>
  (x_ran T 1).bind fun T3 =>
  (getO T3 a0 19).bind fun q5 =>
  some ((p1 + (q5.2.1 0)), T3)
theorem mt_k19_14_turnsIn {κ : jK} (hκ : jX κ) (G : Nat → Nat) {T : XS} {a0 : Nat} {p1 : Int32} {v : Int32} {T' : XS} (h : k19_14_turnsIn T a0 p1 = some (v, T')) : jM κ yX14_turnsIn (ws_ yX14_turnsIn cX14_turnsIn 2 (some .int)) 1 0 0 [.ref a0, .int p1] (wX κ G T) (fun u w' => u = some (.int v) ∧ w' = wX κ G T') := by
  rw [k19_14_turnsIn] at h
  refine jM.of (by decide) rfl (Nat.le_of_ble_eq_true rfl) fun Γ C _ => ?_
  show J κ Γ (1, 0, 0, (fun u w' => u = some (.int v) ∧ w' = wX κ G T')) 2 (wX κ G T) 0 0 0 [some (.ref a0), some (.int p1)] []
  refine j_aload_n C dX14_turnsIn_0 rfl rfl ?_
  obtain ⟨q1, g2, h⟩ := ob h
  refine jx_gt19 hκ C g2 1 (by decide) rfl q1176 dX14_turnsIn_1 ?_
  refine j_iconst C (v := 1) dX14_turnsIn_4 rfl ?_
  obtain ⟨T3, e4, h⟩ := ob h
  refine jx_ran hκ C e4 q1292 dX14_turnsIn_5 (jfit.of (Nat.le_of_ble_eq_true rfl) (by decide) (Nat.le_of_ble_eq_true rfl) (Nat.le_of_ble_eq_true rfl) (Nat.le_of_ble_eq_true rfl)) ?_
  refine j_iload_n C dX14_turnsIn_8 rfl rfl ?_
  refine j_aload_n C dX14_turnsIn_9 rfl rfl ?_
  obtain ⟨q5, g6, h⟩ := ob h
  refine jx_gi19 hκ C g6 0 (by decide) rfl q1175 dX14_turnsIn_10 ?_
  refine j_iadd C dX14_turnsIn_13 ?_
  obtain ⟨rfl, rfl⟩ := sp2 h
  exact j_iret C dX14_turnsIn_14 (Nat.le_of_ble_eq_true rfl) (Nat.le_of_ble_eq_true rfl) ⟨rfl, rfl⟩
/-! sees -/
def k19_14_sees (T : XS) (a0 : Nat) (p1 : Int32) : Option (Int32 × XS) :=
  (getO T a0 19).bind fun q1 =>
  (x_ran T 10).bind fun T3 =>
  (getO T3 a0 19).bind fun q5 =>
  b2 (k19_14_turnsIn T3 a0 p1) fun v8 T9 =>
  some ((v8 * 2), T9)
theorem mt_k19_14_sees {κ : jK} (hκ : jX κ) (G : Nat → Nat) {T : XS} {a0 : Nat} {p1 : Int32} {v : Int32} {T' : XS} (h : k19_14_sees T a0 p1 = some (v, T')) : jM κ yX14_sees (ws_ yX14_sees cX14_sees 2 (some .int)) 2 0 0 [.ref a0, .int p1] (wX κ G T) (fun u w' => u = some (.int v) ∧ w' = wX κ G T') := by
  rw [k19_14_sees] at h
  refine jM.of (by decide) rfl (Nat.le_of_ble_eq_true rfl) fun Γ C _ => ?_
  show J κ Γ (2, 0, 0, (fun u w' => u = some (.int v) ∧ w' = wX κ G T')) 2 (wX κ G T) 0 0 0 [some (.ref a0), some (.int p1)] []
  refine j_aload_n C dX14_sees_0 rfl rfl ?_
  obtain ⟨q1, g2, h⟩ := ob h
  refine jx_gt19 hκ C g2 1 (by decide) rfl q1176 dX14_sees_1 ?_
  refine j_bipush C (v := 10) dX14_sees_4 rfl ?_
  obtain ⟨T3, e4, h⟩ := ob h
  refine jx_ran hκ C e4 q1292 dX14_sees_6 (jfit.of (Nat.le_of_ble_eq_true rfl) (by decide) (Nat.le_of_ble_eq_true rfl) (Nat.le_of_ble_eq_true rfl) (Nat.le_of_ble_eq_true rfl)) ?_
  refine j_aload_n C dX14_sees_9 rfl rfl ?_
  refine j_iload_n C dX14_sees_10 rfl rfl ?_
  obtain ⟨q5, g6, h⟩ := ob h
  obtain ⟨v8, T9, e7, h⟩ := ob2 h
  refine jx_U (As := [.int p1]) hκ C (mt_k19_14_turnsIn hκ G e7) ⟨q1346, q2232, q2241, q1290, q141, q1291, (Or.inr ⟨q1290, _, _, _, q1291⟩), by decide, by decide⟩ (N := 1) (by decide +kernel) rfl g6 (by decide) rfl rfl dX14_sees_11 (jfit.of (Nat.le_of_ble_eq_true rfl) (by decide) (Nat.le_of_ble_eq_true rfl) (Nat.le_of_ble_eq_true rfl) (Nat.le_of_ble_eq_true rfl)) rfl ?_
  refine j_iconst C (v := 2) dX14_sees_14 rfl ?_
  refine j_imul C dX14_sees_15 ?_
  obtain ⟨rfl, rfl⟩ := sp2 h
  exact j_iret C dX14_sees_16 (Nat.le_of_ble_eq_true rfl) (Nat.le_of_ble_eq_true rfl) ⟨rfl, rfl⟩
/-! sees -/
def k19_16_sees (T : XS) (a0 : Nat) (p1 : Int32) : Option (Int32 × XS) :=
  (getO T a0 19).bind fun q1 =>
  (x_ran T 30).bind fun T3 =>
  (getO T3 a0 19).bind fun q5 =>
  b2 (k19_14_sees T3 a0 p1) fun v8 T9 =>
  some ((-v8), T9)
theorem mt_k19_16_sees {κ : jK} (hκ : jX κ) (G : Nat → Nat) {T : XS} {a0 : Nat} {p1 : Int32} {v : Int32} {T' : XS} (h : k19_16_sees T a0 p1 = some (v, T')) : jM κ yX16_sees (ws_ yX16_sees cX16_sees 2 (some .int)) 3 0 0 [.ref a0, .int p1] (wX κ G T) (fun u w' => u = some (.int v) ∧ w' = wX κ G T') := by
  rw [k19_16_sees] at h
  refine jM.of (by decide) rfl (Nat.le_of_ble_eq_true rfl) fun Γ C _ => ?_
  show J κ Γ (3, 0, 0, (fun u w' => u = some (.int v) ∧ w' = wX κ G T')) 2 (wX κ G T) 0 0 0 [some (.ref a0), some (.int p1)] []
  refine j_aload_n C dX16_sees_0 rfl rfl ?_
  obtain ⟨q1, g2, h⟩ := ob h
  refine jx_gt19 hκ C g2 2 (by decide) rfl q1190 dX16_sees_1 ?_
  refine j_bipush C (v := 30) dX16_sees_4 rfl ?_
  obtain ⟨T3, e4, h⟩ := ob h
  refine jx_ran hκ C e4 q1343 dX16_sees_6 (jfit.of (Nat.le_of_ble_eq_true rfl) (by decide) (Nat.le_of_ble_eq_true rfl) (Nat.le_of_ble_eq_true rfl) (Nat.le_of_ble_eq_true rfl)) ?_
  refine j_aload_n C dX16_sees_9 rfl rfl ?_
  refine j_iload_n C dX16_sees_10 rfl rfl ?_
  obtain ⟨q5, g6, h⟩ := ob h
  obtain ⟨v8, T9, e7, h⟩ := ob2 h
  refine jx_SU (As := [.int p1]) hκ C (mt_k19_14_sees hκ G e7) (lw_SU9 q1344 q1333 q1195 q1331 q141 q1345) (N := 1) ⟨by decide, by decide +kernel⟩ rfl g6 (by decide) rfl dX16_sees_11 (jfit.of (Nat.le_of_ble_eq_true rfl) (by decide) (Nat.le_of_ble_eq_true rfl) (Nat.le_of_ble_eq_true rfl) (Nat.le_of_ble_eq_true rfl)) rfl ?_
  refine j_ineg C dX16_sees_14 ?_
  obtain ⟨rfl, rfl⟩ := sp2 h
  exact j_iret C dX16_sees_15 (Nat.le_of_ble_eq_true rfl) (Nat.le_of_ble_eq_true rfl) ⟨rfl, rfl⟩
/-! sees -/
def k19_17_sees (T : XS) (a0 : Nat) (p1 : Int32) : Option (Int32 × XS) :=
  (getO T a0 19).bind fun q1 =>
  (x_ran T 41).bind fun T3 =>
  (getO T3 a0 19).bind fun q5 =>
  b2 (k19_16_sees T3 a0 (p1 + 1)) fun v8 T9 =>
  some (v8, T9)
theorem mt_k19_17_sees {κ : jK} (hκ : jX κ) (G : Nat → Nat) {T : XS} {a0 : Nat} {p1 : Int32} {v : Int32} {T' : XS} (h : k19_17_sees T a0 p1 = some (v, T')) : jM κ yX17_sees (ws_ yX17_sees cX17_sees 2 (some .int)) 4 0 0 [.ref a0, .int p1] (wX κ G T) (fun u w' => u = some (.int v) ∧ w' = wX κ G T') := by
  rw [k19_17_sees] at h
  refine jM.of (by decide) rfl (Nat.le_of_ble_eq_true rfl) fun Γ C _ => ?_
  show J κ Γ (4, 0, 0, (fun u w' => u = some (.int v) ∧ w' = wX κ G T')) 2 (wX κ G T) 0 0 0 [some (.ref a0), some (.int p1)] []
  refine j_aload_n C dX17_sees_0 rfl rfl ?_
  obtain ⟨q1, g2, h⟩ := ob h
  refine jx_gt19 hκ C g2 3 (by decide) rfl q1202 dX17_sees_1 ?_
  refine j_bipush C (v := 41) dX17_sees_4 rfl ?_
  obtain ⟨T3, e4, h⟩ := ob h
  refine jx_ran hκ C e4 q1339 dX17_sees_6 (jfit.of (Nat.le_of_ble_eq_true rfl) (by decide) (Nat.le_of_ble_eq_true rfl) (Nat.le_of_ble_eq_true rfl) (Nat.le_of_ble_eq_true rfl)) ?_
  refine j_aload_n C dX17_sees_9 rfl rfl ?_
  refine j_iload_n C dX17_sees_10 rfl rfl ?_
  refine j_iconst C (v := 1) dX17_sees_11 rfl ?_
  refine j_iadd C dX17_sees_12 ?_
  obtain ⟨q5, g6, h⟩ := ob h
  obtain ⟨v8, T9, e7, h⟩ := ob2 h
  refine jx_SU (As := [.int (p1 + 1)]) hκ C (mt_k19_16_sees hκ G e7) (lw_SU9 q1340 q2233 q1208 q1341 q143 q1342) (N := 1) ⟨by decide, by decide +kernel⟩ rfl g6 (by decide) rfl dX17_sees_13 (jfit.of (Nat.le_of_ble_eq_true rfl) (by decide) (Nat.le_of_ble_eq_true rfl) (Nat.le_of_ble_eq_true rfl) (Nat.le_of_ble_eq_true rfl)) rfl ?_
  obtain ⟨rfl, rfl⟩ := sp2 h
  exact j_iret C dX17_sees_16 (Nat.le_of_ble_eq_true rfl) (Nat.le_of_ble_eq_true rfl) ⟨rfl, rfl⟩
/-! fears -/
def k19_14_fears (T : XS) (a0 : Nat) (p1 : Int32) : Option (Int32 × XS) :=
  (getO T a0 19).bind fun q1 =>
  (x_ran T 11).bind fun T3 =>
  (getO T3 a0 19).bind fun q5 =>
  some ((p1 ^^^ (q5.2.1 0)), T3)
theorem mt_k19_14_fears {κ : jK} (hκ : jX κ) (G : Nat → Nat) {T : XS} {a0 : Nat} {p1 : Int32} {v : Int32} {T' : XS} (h : k19_14_fears T a0 p1 = some (v, T')) : jM κ yX14_fears (ws_ yX14_fears cX14_fears 2 (some .int)) 1 0 0 [.ref a0, .int p1] (wX κ G T) (fun u w' => u = some (.int v) ∧ w' = wX κ G T') := by
  rw [k19_14_fears] at h
  refine jM.of (by decide) rfl (Nat.le_of_ble_eq_true rfl) fun Γ C _ => ?_
  show J κ Γ (1, 0, 0, (fun u w' => u = some (.int v) ∧ w' = wX κ G T')) 2 (wX κ G T) 0 0 0 [some (.ref a0), some (.int p1)] []
  refine j_aload_n C dX14_fears_0 rfl rfl ?_
  obtain ⟨q1, g2, h⟩ := ob h
  refine jx_gt19 hκ C g2 1 (by decide) rfl q1176 dX14_fears_1 ?_
  refine j_bipush C (v := 11) dX14_fears_4 rfl ?_
  obtain ⟨T3, e4, h⟩ := ob h
  refine jx_ran hκ C e4 q1292 dX14_fears_6 (jfit.of (Nat.le_of_ble_eq_true rfl) (by decide) (Nat.le_of_ble_eq_true rfl) (Nat.le_of_ble_eq_true rfl) (Nat.le_of_ble_eq_true rfl)) ?_
  refine j_iload_n C dX14_fears_9 rfl rfl ?_
  refine j_aload_n C dX14_fears_10 rfl rfl ?_
  obtain ⟨q5, g6, h⟩ := ob h
  refine jx_gi19 hκ C g6 0 (by decide) rfl q1175 dX14_fears_11 ?_
  refine j_ixor C dX14_fears_14 ?_
  obtain ⟨rfl, rfl⟩ := sp2 h
  exact j_iret C dX14_fears_15 (Nat.le_of_ble_eq_true rfl) (Nat.le_of_ble_eq_true rfl) ⟨rfl, rfl⟩
/-! fears -/
def k19_17_fears (T : XS) (a0 : Nat) (p1 : Int32) : Option (Int32 × XS) :=
  (getO T a0 19).bind fun q1 =>
  (x_ran T 40).bind fun T3 =>
  (getO T3 a0 19).bind fun q5 =>
  b2 (k19_14_fears T3 a0 p1) fun v8 T9 =>
  some ((v8 * 3), T9)
theorem mt_k19_17_fears {κ : jK} (hκ : jX κ) (G : Nat → Nat) {T : XS} {a0 : Nat} {p1 : Int32} {v : Int32} {T' : XS} (h : k19_17_fears T a0 p1 = some (v, T')) : jM κ yX17_fears (ws_ yX17_fears cX17_fears 2 (some .int)) 2 0 0 [.ref a0, .int p1] (wX κ G T) (fun u w' => u = some (.int v) ∧ w' = wX κ G T') := by
  rw [k19_17_fears] at h
  refine jM.of (by decide) rfl (Nat.le_of_ble_eq_true rfl) fun Γ C _ => ?_
  show J κ Γ (2, 0, 0, (fun u w' => u = some (.int v) ∧ w' = wX κ G T')) 2 (wX κ G T) 0 0 0 [some (.ref a0), some (.int p1)] []
  refine j_aload_n C dX17_fears_0 rfl rfl ?_
  obtain ⟨q1, g2, h⟩ := ob h
  refine jx_gt19 hκ C g2 3 (by decide) rfl q1202 dX17_fears_1 ?_
  refine j_bipush C (v := 40) dX17_fears_4 rfl ?_
  obtain ⟨T3, e4, h⟩ := ob h
  refine jx_ran hκ C e4 q1339 dX17_fears_6 (jfit.of (Nat.le_of_ble_eq_true rfl) (by decide) (Nat.le_of_ble_eq_true rfl) (Nat.le_of_ble_eq_true rfl) (Nat.le_of_ble_eq_true rfl)) ?_
  refine j_aload_n C dX17_fears_9 rfl rfl ?_
  refine j_iload_n C dX17_fears_10 rfl rfl ?_
  obtain ⟨q5, g6, h⟩ := ob h
  obtain ⟨v8, T9, e7, h⟩ := ob2 h
  refine jx_SU2 (As := [.int p1]) hκ C (mt_k19_14_fears hκ G e7) (xc := "NineKeysRound$Lamp") ⟨q1377, q1378, q1208, (Or.inl q1195), q1366, q141, q1367, by decide⟩ (N := 1) (by decide +kernel) rfl g6 (by decide) rfl dX17_fears_11 (jfit.of (Nat.le_of_ble_eq_true rfl) (by decide) (Nat.le_of_ble_eq_true rfl) (Nat.le_of_ble_eq_true rfl) (Nat.le_of_ble_eq_true rfl)) rfl ?_
  refine j_iconst C (v := 3) dX17_fears_14 rfl ?_
  refine j_imul C dX17_fears_15 ?_
  obtain ⟨rfl, rfl⟩ := sp2 h
  exact j_iret C dX17_fears_16 (Nat.le_of_ble_eq_true rfl) (Nat.le_of_ble_eq_true rfl) ⟨rfl, rfl⟩
/-! tells -/
def k19_14_tells (T : XS) (a0 : Nat) (p1 : Int32) : Option (Int32 × XS) :=
  (getO T a0 19).bind fun q1 =>
  (x_ran T 2).bind fun T3 =>
  (getO T3 a0 19).bind fun q5 =>
  b2 (k19_17_sees T3 a0 p1) fun v8 T9 =>
  (getO T9 a0 19).bind fun q10 =>
  b2 (k19_17_fears T9 a0 1) fun v13 T14 =>
  some ((v8 - v13), T14)
theorem mt_k19_14_tells {κ : jK} (hκ : jX κ) (G : Nat → Nat) {T : XS} {a0 : Nat} {p1 : Int32} {v : Int32} {T' : XS} (h : k19_14_tells T a0 p1 = some (v, T')) : jM κ yX14_tells (ws_ yX14_tells cX14_tells 3 (some .int)) 5 0 0 [.ref a0, .int p1] (wX κ G T) (fun u w' => u = some (.int v) ∧ w' = wX κ G T') := by
  rw [k19_14_tells] at h
  refine jM.of (by decide) rfl (Nat.le_of_ble_eq_true rfl) fun Γ C _ => ?_
  show J κ Γ (5, 0, 0, (fun u w' => u = some (.int v) ∧ w' = wX κ G T')) 3 (wX κ G T) 0 0 0 [some (.ref a0), some (.int p1), none] []
  refine j_aload_n C dX14_tells_0 rfl rfl ?_
  obtain ⟨q1, g2, h⟩ := ob h
  refine jx_gt19 hκ C g2 1 (by decide) rfl q1176 dX14_tells_1 ?_
  refine j_iconst C (v := 2) dX14_tells_4 rfl ?_
  obtain ⟨T3, e4, h⟩ := ob h
  refine jx_ran hκ C e4 q1292 dX14_tells_5 (jfit.of (Nat.le_of_ble_eq_true rfl) (by decide) (Nat.le_of_ble_eq_true rfl) (Nat.le_of_ble_eq_true rfl) (Nat.le_of_ble_eq_true rfl)) ?_
  refine j_aload_n C dX14_tells_8 rfl rfl ?_
  refine j_iload_n C dX14_tells_9 rfl rfl ?_
  obtain ⟨q5, g6, h⟩ := ob h
  obtain ⟨v8, T9, e7, h⟩ := ob2 h
  refine jx_U (As := [.int p1]) hκ C (mt_k19_17_sees hκ G e7) ⟨q1330, q1333, q1373, q1337, q144, q1338, (Or.inl q1355), by decide, by decide⟩ (N := 1) (by decide +kernel) rfl g6 (by decide) rfl rfl dX14_tells_10 (jfit.of (Nat.le_of_ble_eq_true rfl) (by decide) (Nat.le_of_ble_eq_true rfl) (Nat.le_of_ble_eq_true rfl) (Nat.le_of_ble_eq_true rfl)) rfl ?_
  refine j_istore_n C dX14_tells_13 rfl (by decide) rfl ?_
  refine j_iload_n C dX14_tells_14 rfl rfl ?_
  refine j_aload_n C dX14_tells_15 rfl rfl ?_
  refine j_iconst C (v := 1) dX14_tells_16 rfl ?_
  obtain ⟨q10, g11, h⟩ := ob h
  obtain ⟨v13, T14, e12, h⟩ := ob2 h
  refine jx_U (As := [.int 1]) hκ C (mt_k19_17_fears hκ G e12) ⟨q1374, q2242, q2250, q1375, q144, q1376, (Or.inl q1365), by decide, by decide⟩ (N := 1) (by decide +kernel) rfl g11 (by decide) rfl rfl dX14_tells_17 (jfit.of (Nat.le_of_ble_eq_true rfl) (by decide) (Nat.le_of_ble_eq_true rfl) (Nat.le_of_ble_eq_true rfl) (Nat.le_of_ble_eq_true rfl)) rfl ?_
  refine j_isub C dX14_tells_20 ?_
  obtain ⟨rfl, rfl⟩ := sp2 h
  exact j_iret C dX14_tells_21 (Nat.le_of_ble_eq_true rfl) (Nat.le_of_ble_eq_true rfl) ⟨rfl, rfl⟩
/-! tells -/
def k19_19_tells (T : XS) (a0 : Nat) (p1 : Int32) : Option (Int32 × XS) :=
  (getO T a0 19).bind fun q1 =>
  (x_ran T 60).bind fun T3 =>
  (getO T3 a0 19).bind fun q5 =>
  b2 (k19_14_tells T3 a0 p1) fun v8 T9 =>
  some ((v8 ^^^ 5), T9)
theorem mt_k19_19_tells {κ : jK} (hκ : jX κ) (G : Nat → Nat) {T : XS} {a0 : Nat} {p1 : Int32} {v : Int32} {T' : XS} (h : k19_19_tells T a0 p1 = some (v, T')) : jM κ yX19_tells (ws_ yX19_tells cX19_tells 2 (some .int)) 6 0 0 [.ref a0, .int p1] (wX κ G T) (fun u w' => u = some (.int v) ∧ w' = wX κ G T') := by
  rw [k19_19_tells] at h
  refine jM.of (by decide) rfl (Nat.le_of_ble_eq_true rfl) fun Γ C _ => ?_
  show J κ Γ (6, 0, 0, (fun u w' => u = some (.int v) ∧ w' = wX κ G T')) 2 (wX κ G T) 0 0 0 [some (.ref a0), some (.int p1)] []
  refine j_aload_n C dX19_tells_0 rfl rfl ?_
  obtain ⟨q1, g2, h⟩ := ob h
  refine jx_gt19 hκ C g2 4 (by decide) rfl q1228 dX19_tells_1 ?_
  refine j_bipush C (v := 60) dX19_tells_4 rfl ?_
  obtain ⟨T3, e4, h⟩ := ob h
  refine jx_ran hκ C e4 q1409 dX19_tells_6 (jfit.of (Nat.le_of_ble_eq_true rfl) (by decide) (Nat.le_of_ble_eq_true rfl) (Nat.le_of_ble_eq_true rfl) (Nat.le_of_ble_eq_true rfl)) ?_
  refine j_aload_n C dX19_tells_9 rfl rfl ?_
  refine j_iload_n C dX19_tells_10 rfl rfl ?_
  obtain ⟨q5, g6, h⟩ := ob h
  obtain ⟨v8, T9, e7, h⟩ := ob2 h
  refine jx_SU2 (As := [.int p1]) hκ C (mt_k19_14_tells hκ G e7) (xc := "NineKeysRound$Dog") ⟨q1410, q1411, q1235, (Or.inr ⟨"NineKeysRound$Lamp", by decide, q1208, q1195⟩), q1327, q141, q1329, by decide⟩ (N := 1) (by decide +kernel) rfl g6 (by decide) rfl dX19_tells_11 (jfit.of (Nat.le_of_ble_eq_true rfl) (by decide) (Nat.le_of_ble_eq_true rfl) (Nat.le_of_ble_eq_true rfl) (Nat.le_of_ble_eq_true rfl)) rfl ?_
  refine j_iconst C (v := 5) dX19_tells_14 rfl ?_
  refine j_ixor C dX19_tells_15 ?_
  obtain ⟨rfl, rfl⟩ := sp2 h
  exact j_iret C dX19_tells_16 (Nat.le_of_ble_eq_true rfl) (Nat.le_of_ble_eq_true rfl) ⟨rfl, rfl⟩
/-! kind -/
def k19_19_kind (T : XS) (a0 : Nat) : Option Int32 :=
  some 5
theorem mt_k19_19_kind {κ : jK} (hκ : jX κ) (G : Nat → Nat) {T : XS} {a0 : Nat} {v : Int32} (h : k19_19_kind T a0 = some v) : jM κ yX19_kind (ws_ yX19_kind cX19_kind 1 (some .int)) 1 0 0 [.ref a0] (wX κ G T) (fun u w' => u = some (.int v) ∧ w' = wX κ G T) := by
  rw [k19_19_kind] at h
  refine jM.of (by decide) rfl (Nat.le_of_ble_eq_true rfl) fun Γ C _ => ?_
  show J κ Γ (1, 0, 0, (fun u w' => u = some (.int v) ∧ w' = wX κ G T)) 1 (wX κ G T) 0 0 0 [some (.ref a0)] []
  refine j_iconst C (v := 5) dX19_kind_0 rfl ?_
  obtain rfl := sp1 h
  exact j_iret C dX19_kind_1 (Nat.le_of_ble_eq_true rfl) (Nat.le_of_ble_eq_true rfl) ⟨rfl, rfl⟩
/-! isUnder -/
def k19_14_isUnder (T : XS) (a0 : Nat) (p1 : Int32) : Option Bool :=
  (if p1 = 0 then
  some true
  else
  (getO T a0 19).bind fun q1 =>
  (k19_19_kind T a0).bind fun v4 =>
  (if p1 = v4 then
  some true
  else
  some false))
theorem mt_k19_14_isUnder {κ : jK} (hκ : jX κ) (G : Nat → Nat) {T : XS} {a0 : Nat} {p1 : Int32} {v : Bool} (h : k19_14_isUnder T a0 p1 = some v) : jM κ yX14_isUnder (ws_ yX14_isUnder cX14_isUnder 2 (some .boolean)) 2 0 0 [.ref a0, .int p1] (wX κ G T) (fun u w' => u = some (.int (b2i v)) ∧ w' = wX κ G T) := by
  rw [k19_14_isUnder] at h
  refine jM.of (by decide) rfl (Nat.le_of_ble_eq_true rfl) fun Γ C _ => ?_
  show J κ Γ (2, 0, 0, (fun u w' => u = some (.int (b2i v)) ∧ w' = wX κ G T)) 2 (wX κ G T) 0 0 0 [some (.ref a0), some (.int p1)] []
  refine j_iload_n C dX14_isUnder_0 rfl rfl ?_
  refine j_if_eq C dX14_isUnder_1 (tgt := 12) (by decide) (fun c => ?_) (fun c => ?_)
  · replace h := ip c h
    refine j_iconst C (v := 1) dX14_isUnder_12 rfl ?_
    refine j_goto C dX14_isUnder_13 (tgt := 17) (by decide) ?_
    obtain rfl := sp1 h
    exact j_zret C rfl dX14_isUnder_17 (Nat.le_of_ble_eq_true rfl) (Nat.le_of_ble_eq_true rfl) ⟨rfl, rfl⟩
  replace h := im c h
  refine j_iload_n C dX14_isUnder_4 rfl rfl ?_
  refine j_aload_n C dX14_isUnder_5 rfl rfl ?_
  obtain ⟨q1, g2, h⟩ := ob h
  obtain ⟨v4, e3, h⟩ := ob h
  refine jx_U (As := []) hκ C (mt_k19_19_kind hκ G e3) ⟨q1585, q1588, q1607, q1608, q146, q1609, (Or.inr ⟨q1586, _, _, _, q1610⟩), by decide, by decide⟩ (N := 0) (by decide +kernel) rfl g2 (by decide) rfl rfl dX14_isUnder_6 (jfit.of (Nat.le_of_ble_eq_true rfl) (by decide) (Nat.le_of_ble_eq_true rfl) (Nat.le_of_ble_eq_true rfl) (Nat.le_of_ble_eq_true rfl)) rfl ?_
  refine j_icmp_ne C dX14_isUnder_9 (tgt := 16) (by decide) (fun c => ?_) (fun c => ?_)
  · replace h := im c h
    refine j_iconst C (v := 0) dX14_isUnder_16 rfl ?_
    obtain rfl := sp1 h
    exact j_zret C rfl dX14_isUnder_17 (Nat.le_of_ble_eq_true rfl) (Nat.le_of_ble_eq_true rfl) ⟨rfl, rfl⟩
  replace h := ip c h
  refine j_iconst C (v := 1) dX14_isUnder_12 rfl ?_
  refine j_goto C dX14_isUnder_13 (tgt := 17) (by decide) ?_
  obtain rfl := sp1 h
  exact j_zret C rfl dX14_isUnder_17 (Nat.le_of_ble_eq_true rfl) (Nat.le_of_ble_eq_true rfl) ⟨rfl, rfl⟩
/-! isUnder -/
def k19_16_isUnder (T : XS) (a0 : Nat) (p1 : Int32) : Option Bool :=
  (if p1 = 2 then
  some true
  else
  (getO T a0 19).bind fun q1 =>
  (k19_14_isUnder T a0 p1).bind fun v4 =>
  (if (b2i v4) = 0 then
  some false
  else
  some true))
theorem mt_k19_16_isUnder {κ : jK} (hκ : jX κ) (G : Nat → Nat) {T : XS} {a0 : Nat} {p1 : Int32} {v : Bool} (h : k19_16_isUnder T a0 p1 = some v) : jM κ yX16_isUnder (ws_ yX16_isUnder cX16_isUnder 2 (some .boolean)) 3 0 0 [.ref a0, .int p1] (wX κ G T) (fun u w' => u = some (.int (b2i v)) ∧ w' = wX κ G T) := by
  rw [k19_16_isUnder] at h
  refine jM.of (by decide) rfl (Nat.le_of_ble_eq_true rfl) fun Γ C _ => ?_
  show J κ Γ (3, 0, 0, (fun u w' => u = some (.int (b2i v)) ∧ w' = wX κ G T)) 2 (wX κ G T) 0 0 0 [some (.ref a0), some (.int p1)] []
  refine j_iload_n C dX16_isUnder_0 rfl rfl ?_
  refine j_iconst C (v := 2) dX16_isUnder_1 rfl ?_
  refine j_icmp_eq C dX16_isUnder_2 (tgt := 13) (by decide) (fun c => ?_) (fun c => ?_)
  · replace h := ip c h
    refine j_iconst C (v := 1) dX16_isUnder_13 rfl ?_
    refine j_goto C dX16_isUnder_14 (tgt := 18) (by decide) ?_
    obtain rfl := sp1 h
    exact j_zret C rfl dX16_isUnder_18 (Nat.le_of_ble_eq_true rfl) (Nat.le_of_ble_eq_true rfl) ⟨rfl, rfl⟩
  replace h := im c h
  refine j_aload_n C dX16_isUnder_5 rfl rfl ?_
  refine j_iload_n C dX16_isUnder_6 rfl rfl ?_
  obtain ⟨q1, g2, h⟩ := ob h
  obtain ⟨v4, e3, h⟩ := ob h
  refine jx_SU (As := [.int p1]) hκ C (mt_k19_14_isUnder hκ G e3) (lw_SU9 q1618 q1579 q1195 q1577 q141 q1584) (N := 1) ⟨by decide, by decide +kernel⟩ rfl g2 (by decide) rfl dX16_isUnder_7 (jfit.of (Nat.le_of_ble_eq_true rfl) (by decide) (Nat.le_of_ble_eq_true rfl) (Nat.le_of_ble_eq_true rfl) (Nat.le_of_ble_eq_true rfl)) rfl ?_
  refine j_if_eq C dX16_isUnder_10 (tgt := 17) (by decide) (fun c => ?_) (fun c => ?_)
  · replace h := ip c h
    refine j_iconst C (v := 0) dX16_isUnder_17 rfl ?_
    obtain rfl := sp1 h
    exact j_zret C rfl dX16_isUnder_18 (Nat.le_of_ble_eq_true rfl) (Nat.le_of_ble_eq_true rfl) ⟨rfl, rfl⟩
  replace h := im c h
  refine j_iconst C (v := 1) dX16_isUnder_13 rfl ?_
  refine j_goto C dX16_isUnder_14 (tgt := 18) (by decide) ?_
  obtain rfl := sp1 h
  exact j_zret C rfl dX16_isUnder_18 (Nat.le_of_ble_eq_true rfl) (Nat.le_of_ble_eq_true rfl) ⟨rfl, rfl⟩
/-! isUnder -/
def k19_17_isUnder (T : XS) (a0 : Nat) (p1 : Int32) : Option Bool :=
  (if p1 = 3 then
  some true
  else
  (getO T a0 19).bind fun q1 =>
  (k19_16_isUnder T a0 p1).bind fun v4 =>
  (if (b2i v4) = 0 then
  some false
  else
  some true))
theorem mt_k19_17_isUnder {κ : jK} (hκ : jX κ) (G : Nat → Nat) {T : XS} {a0 : Nat} {p1 : Int32} {v : Bool} (h : k19_17_isUnder T a0 p1 = some v) : jM κ yX17_isUnder (ws_ yX17_isUnder cX17_isUnder 2 (some .boolean)) 4 0 0 [.ref a0, .int p1] (wX κ G T) (fun u w' => u = some (.int (b2i v)) ∧ w' = wX κ G T) := by
  rw [k19_17_isUnder] at h
  refine jM.of (by decide) rfl (Nat.le_of_ble_eq_true rfl) fun Γ C _ => ?_
  show J κ Γ (4, 0, 0, (fun u w' => u = some (.int (b2i v)) ∧ w' = wX κ G T)) 2 (wX κ G T) 0 0 0 [some (.ref a0), some (.int p1)] []
  refine j_iload_n C dX17_isUnder_0 rfl rfl ?_
  refine j_iconst C (v := 3) dX17_isUnder_1 rfl ?_
  refine j_icmp_eq C dX17_isUnder_2 (tgt := 13) (by decide) (fun c => ?_) (fun c => ?_)
  · replace h := ip c h
    refine j_iconst C (v := 1) dX17_isUnder_13 rfl ?_
    refine j_goto C dX17_isUnder_14 (tgt := 18) (by decide) ?_
    obtain rfl := sp1 h
    exact j_zret C rfl dX17_isUnder_18 (Nat.le_of_ble_eq_true rfl) (Nat.le_of_ble_eq_true rfl) ⟨rfl, rfl⟩
  replace h := im c h
  refine j_aload_n C dX17_isUnder_5 rfl rfl ?_
  refine j_iload_n C dX17_isUnder_6 rfl rfl ?_
  obtain ⟨q1, g2, h⟩ := ob h
  obtain ⟨v4, e3, h⟩ := ob h
  refine jx_SU (As := [.int p1]) hκ C (mt_k19_16_isUnder hκ G e3) (lw_SU9 q1615 q2251 q1208 q1616 q143 q1617) (N := 1) ⟨by decide, by decide +kernel⟩ rfl g2 (by decide) rfl dX17_isUnder_7 (jfit.of (Nat.le_of_ble_eq_true rfl) (by decide) (Nat.le_of_ble_eq_true rfl) (Nat.le_of_ble_eq_true rfl) (Nat.le_of_ble_eq_true rfl)) rfl ?_
  refine j_if_eq C dX17_isUnder_10 (tgt := 17) (by decide) (fun c => ?_) (fun c => ?_)
  · replace h := ip c h
    refine j_iconst C (v := 0) dX17_isUnder_17 rfl ?_
    obtain rfl := sp1 h
    exact j_zret C rfl dX17_isUnder_18 (Nat.le_of_ble_eq_true rfl) (Nat.le_of_ble_eq_true rfl) ⟨rfl, rfl⟩
  replace h := im c h
  refine j_iconst C (v := 1) dX17_isUnder_13 rfl ?_
  refine j_goto C dX17_isUnder_14 (tgt := 18) (by decide) ?_
  obtain rfl := sp1 h
  exact j_zret C rfl dX17_isUnder_18 (Nat.le_of_ble_eq_true rfl) (Nat.le_of_ble_eq_true rfl) ⟨rfl, rfl⟩
/-! turnsIn -/
def k20_14_turnsIn (T : XS) (a0 : Nat) (p1 : Int32) : Option (Int32 × XS) :=
  (getO T a0 20).bind fun q1 =>
  (x_ran T 1).bind fun T3 =>
  (getO T3 a0 20).bind fun q5 =>
  some ((p1 + (q5.2.1 0)), T3)
theorem mt_k20_14_turnsIn {κ : jK} (hκ : jX κ) (G : Nat → Nat) {T : XS} {a0 : Nat} {p1 : Int32} {v : Int32} {T' : XS} (h : k20_14_turnsIn T a0 p1 = some (v, T')) : jM κ yX14_turnsIn (ws_ yX14_turnsIn cX14_turnsIn 2 (some .int)) 1 0 0 [.ref a0, .int p1] (wX κ G T) (fun u w' => u = some (.int v) ∧ w' = wX κ G T') := by
  rw [k20_14_turnsIn] at h
  refine jM.of (by decide) rfl (Nat.le_of_ble_eq_true rfl) fun Γ C _ => ?_
  show J κ Γ (1, 0, 0, (fun u w' => u = some (.int v) ∧ w' = wX κ G T')) 2 (wX κ G T) 0 0 0 [some (.ref a0), some (.int p1)] []
  refine j_aload_n C dX14_turnsIn_0 rfl rfl ?_
  obtain ⟨q1, g2, h⟩ := ob h
  refine jx_gt20 hκ C g2 1 (by decide) rfl q1176 dX14_turnsIn_1 ?_
  refine j_iconst C (v := 1) dX14_turnsIn_4 rfl ?_
  obtain ⟨T3, e4, h⟩ := ob h
  refine jx_ran hκ C e4 q1292 dX14_turnsIn_5 (jfit.of (Nat.le_of_ble_eq_true rfl) (by decide) (Nat.le_of_ble_eq_true rfl) (Nat.le_of_ble_eq_true rfl) (Nat.le_of_ble_eq_true rfl)) ?_
  refine j_iload_n C dX14_turnsIn_8 rfl rfl ?_
  refine j_aload_n C dX14_turnsIn_9 rfl rfl ?_
  obtain ⟨q5, g6, h⟩ := ob h
  refine jx_gi20 hκ C g6 0 (by decide) rfl q1175 dX14_turnsIn_10 ?_
  refine j_iadd C dX14_turnsIn_13 ?_
  obtain ⟨rfl, rfl⟩ := sp2 h
  exact j_iret C dX14_turnsIn_14 (Nat.le_of_ble_eq_true rfl) (Nat.le_of_ble_eq_true rfl) ⟨rfl, rfl⟩
/-! turnsIn -/
def k20_20_turnsIn (T : XS) (a0 : Nat) (p1 : Int32) : Option (Int32 × XS) :=
  (getO T a0 20).bind fun q1 =>
  (x_ran T 70).bind fun T3 =>
  (getO T3 a0 20).bind fun q5 =>
  b2 (k20_14_turnsIn T3 a0 p1) fun v8 T9 =>
  some ((v8 * 2), T9)
theorem mt_k20_20_turnsIn {κ : jK} (hκ : jX κ) (G : Nat → Nat) {T : XS} {a0 : Nat} {p1 : Int32} {v : Int32} {T' : XS} (h : k20_20_turnsIn T a0 p1 = some (v, T')) : jM κ yX20_turnsIn (ws_ yX20_turnsIn cX20_turnsIn 2 (some .int)) 2 0 0 [.ref a0, .int p1] (wX κ G T) (fun u w' => u = some (.int v) ∧ w' = wX κ G T') := by
  rw [k20_20_turnsIn] at h
  refine jM.of (by decide) rfl (Nat.le_of_ble_eq_true rfl) fun Γ C _ => ?_
  show J κ Γ (2, 0, 0, (fun u w' => u = some (.int v) ∧ w' = wX κ G T')) 2 (wX κ G T) 0 0 0 [some (.ref a0), some (.int p1)] []
  refine j_aload_n C dX20_turnsIn_0 rfl rfl ?_
  obtain ⟨q1, g2, h⟩ := ob h
  refine jx_gt20 hκ C g2 2 (by decide) rfl q1242 dX20_turnsIn_1 ?_
  refine j_bipush C (v := 70) dX20_turnsIn_4 rfl ?_
  obtain ⟨T3, e4, h⟩ := ob h
  refine jx_ran hκ C e4 q1299 dX20_turnsIn_6 (jfit.of (Nat.le_of_ble_eq_true rfl) (by decide) (Nat.le_of_ble_eq_true rfl) (Nat.le_of_ble_eq_true rfl) (Nat.le_of_ble_eq_true rfl)) ?_
  refine j_aload_n C dX20_turnsIn_9 rfl rfl ?_
  refine j_iload_n C dX20_turnsIn_10 rfl rfl ?_
  obtain ⟨q5, g6, h⟩ := ob h
  obtain ⟨v8, T9, e7, h⟩ := ob2 h
  refine jx_SU (As := [.int p1]) hκ C (mt_k20_14_turnsIn hκ G e7) (lw_SU9 q1300 q2232 q1247 q1290 q141 q1291) (N := 1) ⟨by decide, by decide +kernel⟩ rfl g6 (by decide) rfl dX20_turnsIn_11 (jfit.of (Nat.le_of_ble_eq_true rfl) (by decide) (Nat.le_of_ble_eq_true rfl) (Nat.le_of_ble_eq_true rfl) (Nat.le_of_ble_eq_true rfl)) rfl ?_
  refine j_iconst C (v := 2) dX20_turnsIn_14 rfl ?_
  refine j_imul C dX20_turnsIn_15 ?_
  obtain ⟨rfl, rfl⟩ := sp2 h
  exact j_iret C dX20_turnsIn_16 (Nat.le_of_ble_eq_true rfl) (Nat.le_of_ble_eq_true rfl) ⟨rfl, rfl⟩
/-! sees -/
def k20_14_sees (T : XS) (a0 : Nat) (p1 : Int32) : Option (Int32 × XS) :=
  (getO T a0 20).bind fun q1 =>
  (x_ran T 10).bind fun T3 =>
  (getO T3 a0 20).bind fun q5 =>
  b2 (k20_20_turnsIn T3 a0 p1) fun v8 T9 =>
  some ((v8 * 2), T9)
theorem mt_k20_14_sees {κ : jK} (hκ : jX κ) (G : Nat → Nat) {T : XS} {a0 : Nat} {p1 : Int32} {v : Int32} {T' : XS} (h : k20_14_sees T a0 p1 = some (v, T')) : jM κ yX14_sees (ws_ yX14_sees cX14_sees 2 (some .int)) 3 0 0 [.ref a0, .int p1] (wX κ G T) (fun u w' => u = some (.int v) ∧ w' = wX κ G T') := by
  rw [k20_14_sees] at h
  refine jM.of (by decide) rfl (Nat.le_of_ble_eq_true rfl) fun Γ C _ => ?_
  show J κ Γ (3, 0, 0, (fun u w' => u = some (.int v) ∧ w' = wX κ G T')) 2 (wX κ G T) 0 0 0 [some (.ref a0), some (.int p1)] []
  refine j_aload_n C dX14_sees_0 rfl rfl ?_
  obtain ⟨q1, g2, h⟩ := ob h
  refine jx_gt20 hκ C g2 1 (by decide) rfl q1176 dX14_sees_1 ?_
  refine j_bipush C (v := 10) dX14_sees_4 rfl ?_
  obtain ⟨T3, e4, h⟩ := ob h
  refine jx_ran hκ C e4 q1292 dX14_sees_6 (jfit.of (Nat.le_of_ble_eq_true rfl) (by decide) (Nat.le_of_ble_eq_true rfl) (Nat.le_of_ble_eq_true rfl) (Nat.le_of_ble_eq_true rfl)) ?_
  refine j_aload_n C dX14_sees_9 rfl rfl ?_
  refine j_iload_n C dX14_sees_10 rfl rfl ?_
  obtain ⟨q5, g6, h⟩ := ob h
  obtain ⟨v8, T9, e7, h⟩ := ob2 h
  refine jx_U (As := [.int p1]) hκ C (mt_k20_20_turnsIn hκ G e7) ⟨q1346, q2232, q2235, q1296, q147, q1298, (Or.inr ⟨q1290, _, _, _, q1291⟩), by decide, by decide⟩ (N := 1) (by decide +kernel) rfl g6 (by decide) rfl rfl dX14_sees_11 (jfit.of (Nat.le_of_ble_eq_true rfl) (by decide) (Nat.le_of_ble_eq_true rfl) (Nat.le_of_ble_eq_true rfl) (Nat.le_of_ble_eq_true rfl)) rfl ?_
  refine j_iconst C (v := 2) dX14_sees_14 rfl ?_
  refine j_imul C dX14_sees_15 ?_
  obtain ⟨rfl, rfl⟩ := sp2 h
  exact j_iret C dX14_sees_16 (Nat.le_of_ble_eq_true rfl) (Nat.le_of_ble_eq_true rfl) ⟨rfl, rfl⟩
/-! fears -/
def k20_14_fears (T : XS) (a0 : Nat) (p1 : Int32) : Option (Int32 × XS) :=
  (getO T a0 20).bind fun q1 =>
  (x_ran T 11).bind fun T3 =>
  (getO T3 a0 20).bind fun q5 =>
  some ((p1 ^^^ (q5.2.1 0)), T3)
theorem mt_k20_14_fears {κ : jK} (hκ : jX κ) (G : Nat → Nat) {T : XS} {a0 : Nat} {p1 : Int32} {v : Int32} {T' : XS} (h : k20_14_fears T a0 p1 = some (v, T')) : jM κ yX14_fears (ws_ yX14_fears cX14_fears 2 (some .int)) 1 0 0 [.ref a0, .int p1] (wX κ G T) (fun u w' => u = some (.int v) ∧ w' = wX κ G T') := by
  rw [k20_14_fears] at h
  refine jM.of (by decide) rfl (Nat.le_of_ble_eq_true rfl) fun Γ C _ => ?_
  show J κ Γ (1, 0, 0, (fun u w' => u = some (.int v) ∧ w' = wX κ G T')) 2 (wX κ G T) 0 0 0 [some (.ref a0), some (.int p1)] []
  refine j_aload_n C dX14_fears_0 rfl rfl ?_
  obtain ⟨q1, g2, h⟩ := ob h
  refine jx_gt20 hκ C g2 1 (by decide) rfl q1176 dX14_fears_1 ?_
  refine j_bipush C (v := 11) dX14_fears_4 rfl ?_
  obtain ⟨T3, e4, h⟩ := ob h
  refine jx_ran hκ C e4 q1292 dX14_fears_6 (jfit.of (Nat.le_of_ble_eq_true rfl) (by decide) (Nat.le_of_ble_eq_true rfl) (Nat.le_of_ble_eq_true rfl) (Nat.le_of_ble_eq_true rfl)) ?_
  refine j_iload_n C dX14_fears_9 rfl rfl ?_
  refine j_aload_n C dX14_fears_10 rfl rfl ?_
  obtain ⟨q5, g6, h⟩ := ob h
  refine jx_gi20 hκ C g6 0 (by decide) rfl q1175 dX14_fears_11 ?_
  refine j_ixor C dX14_fears_14 ?_
  obtain ⟨rfl, rfl⟩ := sp2 h
  exact j_iret C dX14_fears_15 (Nat.le_of_ble_eq_true rfl) (Nat.le_of_ble_eq_true rfl) ⟨rfl, rfl⟩
/-! tells -/
def k20_14_tells (T : XS) (a0 : Nat) (p1 : Int32) : Option (Int32 × XS) :=
  (getO T a0 20).bind fun q1 =>
  (x_ran T 2).bind fun T3 =>
  (getO T3 a0 20).bind fun q5 =>
  b2 (k20_14_sees T3 a0 p1) fun v8 T9 =>
  (getO T9 a0 20).bind fun q10 =>
  b2 (k20_14_fears T9 a0 1) fun v13 T14 =>
  some ((v8 - v13), T14)
theorem mt_k20_14_tells {κ : jK} (hκ : jX κ) (G : Nat → Nat) {T : XS} {a0 : Nat} {p1 : Int32} {v : Int32} {T' : XS} (h : k20_14_tells T a0 p1 = some (v, T')) : jM κ yX14_tells (ws_ yX14_tells cX14_tells 3 (some .int)) 4 0 0 [.ref a0, .int p1] (wX κ G T) (fun u w' => u = some (.int v) ∧ w' = wX κ G T') := by
  rw [k20_14_tells] at h
  refine jM.of (by decide) rfl (Nat.le_of_ble_eq_true rfl) fun Γ C _ => ?_
  show J κ Γ (4, 0, 0, (fun u w' => u = some (.int v) ∧ w' = wX κ G T')) 3 (wX κ G T) 0 0 0 [some (.ref a0), some (.int p1), none] []
  refine j_aload_n C dX14_tells_0 rfl rfl ?_
  obtain ⟨q1, g2, h⟩ := ob h
  refine jx_gt20 hκ C g2 1 (by decide) rfl q1176 dX14_tells_1 ?_
  refine j_iconst C (v := 2) dX14_tells_4 rfl ?_
  obtain ⟨T3, e4, h⟩ := ob h
  refine jx_ran hκ C e4 q1292 dX14_tells_5 (jfit.of (Nat.le_of_ble_eq_true rfl) (by decide) (Nat.le_of_ble_eq_true rfl) (Nat.le_of_ble_eq_true rfl) (Nat.le_of_ble_eq_true rfl)) ?_
  refine j_aload_n C dX14_tells_8 rfl rfl ?_
  refine j_iload_n C dX14_tells_9 rfl rfl ?_
  obtain ⟨q5, g6, h⟩ := ob h
  obtain ⟨v8, T9, e7, h⟩ := ob2 h
  refine jx_U (As := [.int p1]) hκ C (mt_k20_14_sees hκ G e7) ⟨q1330, q1333, q1335, q1331, q141, q1345, (Or.inl q1355), by decide, by decide⟩ (N := 1) (by decide +kernel) rfl g6 (by decide) rfl rfl dX14_tells_10 (jfit.of (Nat.le_of_ble_eq_true rfl) (by decide) (Nat.le_of_ble_eq_true rfl) (Nat.le_of_ble_eq_true rfl) (Nat.le_of_ble_eq_true rfl)) rfl ?_
  refine j_istore_n C dX14_tells_13 rfl (by decide) rfl ?_
  refine j_iload_n C dX14_tells_14 rfl rfl ?_
  refine j_aload_n C dX14_tells_15 rfl rfl ?_
  refine j_iconst C (v := 1) dX14_tells_16 rfl ?_
  obtain ⟨q10, g11, h⟩ := ob h
  obtain ⟨v13, T14, e12, h⟩ := ob2 h
  refine jx_U (As := [.int 1]) hκ C (mt_k20_14_fears hκ G e12) ⟨q1374, q2242, q2244, q1366, q141, q1367, (Or.inl q1365), by decide, by decide⟩ (N := 1) (by decide +kernel) rfl g11 (by decide) rfl rfl dX14_tells_17 (jfit.of (Nat.le_of_ble_eq_true rfl) (by decide) (Nat.le_of_ble_eq_true rfl) (Nat.le_of_ble_eq_true rfl) (Nat.le_of_ble_eq_true rfl)) rfl ?_
  refine j_isub C dX14_tells_20 ?_
  obtain ⟨rfl, rfl⟩ := sp2 h
  exact j_iret C dX14_tells_21 (Nat.le_of_ble_eq_true rfl) (Nat.le_of_ble_eq_true rfl) ⟨rfl, rfl⟩
/-! kind -/
def k20_20_kind (T : XS) (a0 : Nat) : Option Int32 :=
  some 6
theorem mt_k20_20_kind {κ : jK} (hκ : jX κ) (G : Nat → Nat) {T : XS} {a0 : Nat} {v : Int32} (h : k20_20_kind T a0 = some v) : jM κ yX20_kind (ws_ yX20_kind cX20_kind 1 (some .int)) 1 0 0 [.ref a0] (wX κ G T) (fun u w' => u = some (.int v) ∧ w' = wX κ G T) := by
  rw [k20_20_kind] at h
  refine jM.of (by decide) rfl (Nat.le_of_ble_eq_true rfl) fun Γ C _ => ?_
  show J κ Γ (1, 0, 0, (fun u w' => u = some (.int v) ∧ w' = wX κ G T)) 1 (wX κ G T) 0 0 0 [some (.ref a0)] []
  refine j_bipush C (v := 6) dX20_kind_0 rfl ?_
  obtain rfl := sp1 h
  exact j_iret C dX20_kind_2 (Nat.le_of_ble_eq_true rfl) (Nat.le_of_ble_eq_true rfl) ⟨rfl, rfl⟩
/-! isUnder -/
def k20_14_isUnder (T : XS) (a0 : Nat) (p1 : Int32) : Option Bool :=
  (if p1 = 0 then
  some true
  else
  (getO T a0 20).bind fun q1 =>
  (k20_20_kind T a0).bind fun v4 =>
  (if p1 = v4 then
  some true
  else
  some false))
theorem mt_k20_14_isUnder {κ : jK} (hκ : jX κ) (G : Nat → Nat) {T : XS} {a0 : Nat} {p1 : Int32} {v : Bool} (h : k20_14_isUnder T a0 p1 = some v) : jM κ yX14_isUnder (ws_ yX14_isUnder cX14_isUnder 2 (some .boolean)) 2 0 0 [.ref a0, .int p1] (wX κ G T) (fun u w' => u = some (.int (b2i v)) ∧ w' = wX κ G T) := by
  rw [k20_14_isUnder] at h
  refine jM.of (by decide) rfl (Nat.le_of_ble_eq_true rfl) fun Γ C _ => ?_
  show J κ Γ (2, 0, 0, (fun u w' => u = some (.int (b2i v)) ∧ w' = wX κ G T)) 2 (wX κ G T) 0 0 0 [some (.ref a0), some (.int p1)] []
  refine j_iload_n C dX14_isUnder_0 rfl rfl ?_
  refine j_if_eq C dX14_isUnder_1 (tgt := 12) (by decide) (fun c => ?_) (fun c => ?_)
  · replace h := ip c h
    refine j_iconst C (v := 1) dX14_isUnder_12 rfl ?_
    refine j_goto C dX14_isUnder_13 (tgt := 17) (by decide) ?_
    obtain rfl := sp1 h
    exact j_zret C rfl dX14_isUnder_17 (Nat.le_of_ble_eq_true rfl) (Nat.le_of_ble_eq_true rfl) ⟨rfl, rfl⟩
  replace h := im c h
  refine j_iload_n C dX14_isUnder_4 rfl rfl ?_
  refine j_aload_n C dX14_isUnder_5 rfl rfl ?_
  obtain ⟨q1, g2, h⟩ := ob h
  obtain ⟨v4, e3, h⟩ := ob h
  refine jx_U (As := []) hκ C (mt_k20_20_kind hκ G e3) ⟨q1585, q1588, q1592, q1593, q147, q1594, (Or.inr ⟨q1586, _, _, _, q1610⟩), by decide, by decide⟩ (N := 0) (by decide +kernel) rfl g2 (by decide) rfl rfl dX14_isUnder_6 (jfit.of (Nat.le_of_ble_eq_true rfl) (by decide) (Nat.le_of_ble_eq_true rfl) (Nat.le_of_ble_eq_true rfl) (Nat.le_of_ble_eq_true rfl)) rfl ?_
  refine j_icmp_ne C dX14_isUnder_9 (tgt := 16) (by decide) (fun c => ?_) (fun c => ?_)
  · replace h := im c h
    refine j_iconst C (v := 0) dX14_isUnder_16 rfl ?_
    obtain rfl := sp1 h
    exact j_zret C rfl dX14_isUnder_17 (Nat.le_of_ble_eq_true rfl) (Nat.le_of_ble_eq_true rfl) ⟨rfl, rfl⟩
  replace h := ip c h
  refine j_iconst C (v := 1) dX14_isUnder_12 rfl ?_
  refine j_goto C dX14_isUnder_13 (tgt := 17) (by decide) ?_
  obtain rfl := sp1 h
  exact j_zret C rfl dX14_isUnder_17 (Nat.le_of_ble_eq_true rfl) (Nat.le_of_ble_eq_true rfl) ⟨rfl, rfl⟩
/-! turnsIn -/
def k21_14_turnsIn (T : XS) (a0 : Nat) (p1 : Int32) : Option (Int32 × XS) :=
  (getO T a0 21).bind fun q1 =>
  (x_ran T 1).bind fun T3 =>
  (getO T3 a0 21).bind fun q5 =>
  some ((p1 + (q5.2.1 0)), T3)
theorem mt_k21_14_turnsIn {κ : jK} (hκ : jX κ) (G : Nat → Nat) {T : XS} {a0 : Nat} {p1 : Int32} {v : Int32} {T' : XS} (h : k21_14_turnsIn T a0 p1 = some (v, T')) : jM κ yX14_turnsIn (ws_ yX14_turnsIn cX14_turnsIn 2 (some .int)) 1 0 0 [.ref a0, .int p1] (wX κ G T) (fun u w' => u = some (.int v) ∧ w' = wX κ G T') := by
  rw [k21_14_turnsIn] at h
  refine jM.of (by decide) rfl (Nat.le_of_ble_eq_true rfl) fun Γ C _ => ?_
  show J κ Γ (1, 0, 0, (fun u w' => u = some (.int v) ∧ w' = wX κ G T')) 2 (wX κ G T) 0 0 0 [some (.ref a0), some (.int p1)] []
  refine j_aload_n C dX14_turnsIn_0 rfl rfl ?_
  obtain ⟨q1, g2, h⟩ := ob h
  refine jx_gt21 hκ C g2 1 (by decide) rfl q1176 dX14_turnsIn_1 ?_
  refine j_iconst C (v := 1) dX14_turnsIn_4 rfl ?_
  obtain ⟨T3, e4, h⟩ := ob h
  refine jx_ran hκ C e4 q1292 dX14_turnsIn_5 (jfit.of (Nat.le_of_ble_eq_true rfl) (by decide) (Nat.le_of_ble_eq_true rfl) (Nat.le_of_ble_eq_true rfl) (Nat.le_of_ble_eq_true rfl)) ?_
  refine j_iload_n C dX14_turnsIn_8 rfl rfl ?_
  refine j_aload_n C dX14_turnsIn_9 rfl rfl ?_
  obtain ⟨q5, g6, h⟩ := ob h
  refine jx_gi21 hκ C g6 0 (by decide) rfl q1175 dX14_turnsIn_10 ?_
  refine j_iadd C dX14_turnsIn_13 ?_
  obtain ⟨rfl, rfl⟩ := sp2 h
  exact j_iret C dX14_turnsIn_14 (Nat.le_of_ble_eq_true rfl) (Nat.le_of_ble_eq_true rfl) ⟨rfl, rfl⟩
/-! turnsIn -/
def k21_15_turnsIn (T : XS) (a0 : Nat) (p1 : Int32) : Option (Int32 × XS) :=
  (getO T a0 21).bind fun q1 =>
  (x_ran T 20).bind fun T3 =>
  (getO T3 a0 21).bind fun q5 =>
  b2 (k21_14_turnsIn T3 a0 p1) fun v8 T9 =>
  some ((v8 + 3), T9)
theorem mt_k21_15_turnsIn {κ : jK} (hκ : jX κ) (G : Nat → Nat) {T : XS} {a0 : Nat} {p1 : Int32} {v : Int32} {T' : XS} (h : k21_15_turnsIn T a0 p1 = some (v, T')) : jM κ yX15_turnsIn (ws_ yX15_turnsIn cX15_turnsIn 2 (some .int)) 2 0 0 [.ref a0, .int p1] (wX κ G T) (fun u w' => u = some (.int v) ∧ w' = wX κ G T') := by
  rw [k21_15_turnsIn] at h
  refine jM.of (by decide) rfl (Nat.le_of_ble_eq_true rfl) fun Γ C _ => ?_
  show J κ Γ (2, 0, 0, (fun u w' => u = some (.int v) ∧ w' = wX κ G T')) 2 (wX κ G T) 0 0 0 [some (.ref a0), some (.int p1)] []
  refine j_aload_n C dX15_turnsIn_0 rfl rfl ?_
  obtain ⟨q1, g2, h⟩ := ob h
  refine jx_gt21 hκ C g2 2 (by decide) rfl q1174 dX15_turnsIn_1 ?_
  refine j_bipush C (v := 20) dX15_turnsIn_4 rfl ?_
  obtain ⟨T3, e4, h⟩ := ob h
  refine jx_ran hκ C e4 q1285 dX15_turnsIn_6 (jfit.of (Nat.le_of_ble_eq_true rfl) (by decide) (Nat.le_of_ble_eq_true rfl) (Nat.le_of_ble_eq_true rfl) (Nat.le_of_ble_eq_true rfl)) ?_
  refine j_aload_n C dX15_turnsIn_9 rfl rfl ?_
  refine j_iload_n C dX15_turnsIn_10 rfl rfl ?_
  obtain ⟨q5, g6, h⟩ := ob h
  obtain ⟨v8, T9, e7, h⟩ := ob2 h
  refine jx_SU (As := [.int p1]) hκ C (mt_k21_14_turnsIn hκ G e7) (lw_SU9 q1289 q2232 q1183 q1290 q141 q1291) (N := 1) ⟨by decide, by decide +kernel⟩ rfl g6 (by decide) rfl dX15_turnsIn_11 (jfit.of (Nat.le_of_ble_eq_true rfl) (by decide) (Nat.le_of_ble_eq_true rfl) (Nat.le_of_ble_eq_true rfl) (Nat.le_of_ble_eq_true rfl)) rfl ?_
  refine j_iconst C (v := 3) dX15_turnsIn_14 rfl ?_
  refine j_iadd C dX15_turnsIn_15 ?_
  obtain ⟨rfl, rfl⟩ := sp2 h
  exact j_iret C dX15_turnsIn_16 (Nat.le_of_ble_eq_true rfl) (Nat.le_of_ble_eq_true rfl) ⟨rfl, rfl⟩
/-! sees -/
def k21_14_sees (T : XS) (a0 : Nat) (p1 : Int32) : Option (Int32 × XS) :=
  (getO T a0 21).bind fun q1 =>
  (x_ran T 10).bind fun T3 =>
  (getO T3 a0 21).bind fun q5 =>
  b2 (k21_15_turnsIn T3 a0 p1) fun v8 T9 =>
  some ((v8 * 2), T9)
theorem mt_k21_14_sees {κ : jK} (hκ : jX κ) (G : Nat → Nat) {T : XS} {a0 : Nat} {p1 : Int32} {v : Int32} {T' : XS} (h : k21_14_sees T a0 p1 = some (v, T')) : jM κ yX14_sees (ws_ yX14_sees cX14_sees 2 (some .int)) 3 0 0 [.ref a0, .int p1] (wX κ G T) (fun u w' => u = some (.int v) ∧ w' = wX κ G T') := by
  rw [k21_14_sees] at h
  refine jM.of (by decide) rfl (Nat.le_of_ble_eq_true rfl) fun Γ C _ => ?_
  show J κ Γ (3, 0, 0, (fun u w' => u = some (.int v) ∧ w' = wX κ G T')) 2 (wX κ G T) 0 0 0 [some (.ref a0), some (.int p1)] []
  refine j_aload_n C dX14_sees_0 rfl rfl ?_
  obtain ⟨q1, g2, h⟩ := ob h
  refine jx_gt21 hκ C g2 1 (by decide) rfl q1176 dX14_sees_1 ?_
  refine j_bipush C (v := 10) dX14_sees_4 rfl ?_
  obtain ⟨T3, e4, h⟩ := ob h
  refine jx_ran hκ C e4 q1292 dX14_sees_6 (jfit.of (Nat.le_of_ble_eq_true rfl) (by decide) (Nat.le_of_ble_eq_true rfl) (Nat.le_of_ble_eq_true rfl) (Nat.le_of_ble_eq_true rfl)) ?_
  refine j_aload_n C dX14_sees_9 rfl rfl ?_
  refine j_iload_n C dX14_sees_10 rfl rfl ?_
  obtain ⟨q5, g6, h⟩ := ob h
  obtain ⟨v8, T9, e7, h⟩ := ob2 h
  refine jx_U (As := [.int p1]) hκ C (mt_k21_15_turnsIn hκ G e7) ⟨q1346, q2232, q2240, q1282, q142, q1284, (Or.inr ⟨q1290, _, _, _, q1291⟩), by decide, by decide⟩ (N := 1) (by decide +kernel) rfl g6 (by decide) rfl rfl dX14_sees_11 (jfit.of (Nat.le_of_ble_eq_true rfl) (by decide) (Nat.le_of_ble_eq_true rfl) (Nat.le_of_ble_eq_true rfl) (Nat.le_of_ble_eq_true rfl)) rfl ?_
  refine j_iconst C (v := 2) dX14_sees_14 rfl ?_
  refine j_imul C dX14_sees_15 ?_
  obtain ⟨rfl, rfl⟩ := sp2 h
  exact j_iret C dX14_sees_16 (Nat.le_of_ble_eq_true rfl) (Nat.le_of_ble_eq_true rfl) ⟨rfl, rfl⟩
/-! fears -/
def k21_14_fears (T : XS) (a0 : Nat) (p1 : Int32) : Option (Int32 × XS) :=
  (getO T a0 21).bind fun q1 =>
  (x_ran T 11).bind fun T3 =>
  (getO T3 a0 21).bind fun q5 =>
  some ((p1 ^^^ (q5.2.1 0)), T3)
theorem mt_k21_14_fears {κ : jK} (hκ : jX κ) (G : Nat → Nat) {T : XS} {a0 : Nat} {p1 : Int32} {v : Int32} {T' : XS} (h : k21_14_fears T a0 p1 = some (v, T')) : jM κ yX14_fears (ws_ yX14_fears cX14_fears 2 (some .int)) 1 0 0 [.ref a0, .int p1] (wX κ G T) (fun u w' => u = some (.int v) ∧ w' = wX κ G T') := by
  rw [k21_14_fears] at h
  refine jM.of (by decide) rfl (Nat.le_of_ble_eq_true rfl) fun Γ C _ => ?_
  show J κ Γ (1, 0, 0, (fun u w' => u = some (.int v) ∧ w' = wX κ G T')) 2 (wX κ G T) 0 0 0 [some (.ref a0), some (.int p1)] []
  refine j_aload_n C dX14_fears_0 rfl rfl ?_
  obtain ⟨q1, g2, h⟩ := ob h
  refine jx_gt21 hκ C g2 1 (by decide) rfl q1176 dX14_fears_1 ?_
  refine j_bipush C (v := 11) dX14_fears_4 rfl ?_
  obtain ⟨T3, e4, h⟩ := ob h
  refine jx_ran hκ C e4 q1292 dX14_fears_6 (jfit.of (Nat.le_of_ble_eq_true rfl) (by decide) (Nat.le_of_ble_eq_true rfl) (Nat.le_of_ble_eq_true rfl) (Nat.le_of_ble_eq_true rfl)) ?_
  refine j_iload_n C dX14_fears_9 rfl rfl ?_
  refine j_aload_n C dX14_fears_10 rfl rfl ?_
  obtain ⟨q5, g6, h⟩ := ob h
  refine jx_gi21 hκ C g6 0 (by decide) rfl q1175 dX14_fears_11 ?_
  refine j_ixor C dX14_fears_14 ?_
  obtain ⟨rfl, rfl⟩ := sp2 h
  exact j_iret C dX14_fears_15 (Nat.le_of_ble_eq_true rfl) (Nat.le_of_ble_eq_true rfl) ⟨rfl, rfl⟩
/-! fears -/
def k21_18_fears (T : XS) (a0 : Nat) (p1 : Int32) : Option (Int32 × XS) :=
  (getO T a0 21).bind fun q1 =>
  (x_ran T 50).bind fun T3 =>
  (getO T3 a0 21).bind fun q5 =>
  b2 (k21_14_fears T3 a0 p1) fun v8 T9 =>
  (getO T9 a0 21).bind fun q10 =>
  b2 (k21_15_turnsIn T9 a0 2) fun v13 T14 =>
  some ((v8 - v13), T14)
theorem mt_k21_18_fears {κ : jK} (hκ : jX κ) (G : Nat → Nat) {T : XS} {a0 : Nat} {p1 : Int32} {v : Int32} {T' : XS} (h : k21_18_fears T a0 p1 = some (v, T')) : jM κ yX18_fears (ws_ yX18_fears cX18_fears 3 (some .int)) 3 0 0 [.ref a0, .int p1] (wX κ G T) (fun u w' => u = some (.int v) ∧ w' = wX κ G T') := by
  rw [k21_18_fears] at h
  refine jM.of (by decide) rfl (Nat.le_of_ble_eq_true rfl) fun Γ C _ => ?_
  show J κ Γ (3, 0, 0, (fun u w' => u = some (.int v) ∧ w' = wX κ G T')) 3 (wX κ G T) 0 0 0 [some (.ref a0), some (.int p1), none] []
  refine j_aload_n C dX18_fears_0 rfl rfl ?_
  obtain ⟨q1, g2, h⟩ := ob h
  refine jx_gt21 hκ C g2 3 (by decide) rfl q1215 dX18_fears_1 ?_
  refine j_bipush C (v := 50) dX18_fears_4 rfl ?_
  obtain ⟨T3, e4, h⟩ := ob h
  refine jx_ran hκ C e4 q1362 dX18_fears_6 (jfit.of (Nat.le_of_ble_eq_true rfl) (by decide) (Nat.le_of_ble_eq_true rfl) (Nat.le_of_ble_eq_true rfl) (Nat.le_of_ble_eq_true rfl)) ?_
  refine j_aload_n C dX18_fears_9 rfl rfl ?_
  refine j_iload_n C dX18_fears_10 rfl rfl ?_
  obtain ⟨q5, g6, h⟩ := ob h
  obtain ⟨v8, T9, e7, h⟩ := ob2 h
  refine jx_SU2 (As := [.int p1]) hκ C (mt_k21_14_fears hκ G e7) (xc := "NineKeysRound$Dent") ⟨q1363, q1364, q1221, (Or.inl q1183), q1366, q141, q1367, by decide⟩ (N := 1) (by decide +kernel) rfl g6 (by decide) rfl dX18_fears_11 (jfit.of (Nat.le_of_ble_eq_true rfl) (by decide) (Nat.le_of_ble_eq_true rfl) (Nat.le_of_ble_eq_true rfl) (Nat.le_of_ble_eq_true rfl)) rfl ?_
  refine j_istore_n C dX18_fears_14 rfl (by decide) rfl ?_
  refine j_iload_n C dX18_fears_15 rfl rfl ?_
  refine j_aload_n C dX18_fears_16 rfl rfl ?_
  refine j_iconst C (v := 2) dX18_fears_17 rfl ?_
  obtain ⟨q10, g11, h⟩ := ob h
  obtain ⟨v13, T14, e12, h⟩ := ob2 h
  refine jx_U (As := [.int 2]) hκ C (mt_k21_15_turnsIn hκ G e12) ⟨q1368, q1369, q1372, q1282, q142, q1284, (Or.inl q1370), by decide, by decide⟩ (N := 1) (by decide +kernel) rfl g11 (by decide) rfl rfl dX18_fears_18 (jfit.of (Nat.le_of_ble_eq_true rfl) (by decide) (Nat.le_of_ble_eq_true rfl) (Nat.le_of_ble_eq_true rfl) (Nat.le_of_ble_eq_true rfl)) rfl ?_
  refine j_isub C dX18_fears_21 ?_
  obtain ⟨rfl, rfl⟩ := sp2 h
  exact j_iret C dX18_fears_22 (Nat.le_of_ble_eq_true rfl) (Nat.le_of_ble_eq_true rfl) ⟨rfl, rfl⟩
/-! sees -/
def k21_21_sees (T : XS) (a0 : Nat) (p1 : Int32) : Option (Int32 × XS) :=
  (getO T a0 21).bind fun q1 =>
  (x_ran T 80).bind fun T3 =>
  (getO T3 a0 21).bind fun q5 =>
  b2 (k21_14_sees T3 a0 p1) fun v8 T9 =>
  (getO T9 a0 21).bind fun q10 =>
  b2 (k21_18_fears T9 a0 2) fun v13 T14 =>
  some ((v8 + v13), T14)
theorem mt_k21_21_sees {κ : jK} (hκ : jX κ) (G : Nat → Nat) {T : XS} {a0 : Nat} {p1 : Int32} {v : Int32} {T' : XS} (h : k21_21_sees T a0 p1 = some (v, T')) : jM κ yX21_sees (ws_ yX21_sees cX21_sees 3 (some .int)) 4 0 0 [.ref a0, .int p1] (wX κ G T) (fun u w' => u = some (.int v) ∧ w' = wX κ G T') := by
  rw [k21_21_sees] at h
  refine jM.of (by decide) rfl (Nat.le_of_ble_eq_true rfl) fun Γ C _ => ?_
  show J κ Γ (4, 0, 0, (fun u w' => u = some (.int v) ∧ w' = wX κ G T')) 3 (wX κ G T) 0 0 0 [some (.ref a0), some (.int p1), none] []
  refine j_aload_n C dX21_sees_0 rfl rfl ?_
  obtain ⟨q1, g2, h⟩ := ob h
  refine jx_gt21 hκ C g2 4 (by decide) rfl q1254 dX21_sees_1 ?_
  refine j_bipush C (v := 80) dX21_sees_4 rfl ?_
  obtain ⟨T3, e4, h⟩ := ob h
  refine jx_ran hκ C e4 q1352 dX21_sees_6 (jfit.of (Nat.le_of_ble_eq_true rfl) (by decide) (Nat.le_of_ble_eq_true rfl) (Nat.le_of_ble_eq_true rfl) (Nat.le_of_ble_eq_true rfl)) ?_
  refine j_aload_n C dX21_sees_9 rfl rfl ?_
  refine j_iload_n C dX21_sees_10 rfl rfl ?_
  obtain ⟨q5, g6, h⟩ := ob h
  obtain ⟨v8, T9, e7, h⟩ := ob2 h
  refine jx_SU2 (As := [.int p1]) hκ C (mt_k21_14_sees hκ G e7) (xc := "NineKeysRound$Paper") ⟨q1353, q1354, q1261, (Or.inr ⟨"NineKeysRound$Dent", by decide, q1221, q1183⟩), q1331, q141, q1345, by decide⟩ (N := 1) (by decide +kernel) rfl g6 (by decide) rfl dX21_sees_11 (jfit.of (Nat.le_of_ble_eq_true rfl) (by decide) (Nat.le_of_ble_eq_true rfl) (Nat.le_of_ble_eq_true rfl) (Nat.le_of_ble_eq_true rfl)) rfl ?_
  refine j_istore_n C dX21_sees_14 rfl (by decide) rfl ?_
  refine j_iload_n C dX21_sees_15 rfl rfl ?_
  refine j_aload_n C dX21_sees_16 rfl rfl ?_
  refine j_iconst C (v := 2) dX21_sees_17 rfl ?_
  obtain ⟨q10, g11, h⟩ := ob h
  obtain ⟨v13, T14, e12, h⟩ := ob2 h
  refine jx_U (As := [.int 2]) hκ C (mt_k21_18_fears hκ G e12) ⟨q1356, q1357, q1359, q1360, q145, q1361, (Or.inl q1358), by decide, by decide⟩ (N := 1) (by decide +kernel) rfl g11 (by decide) rfl rfl dX21_sees_18 (jfit.of (Nat.le_of_ble_eq_true rfl) (by decide) (Nat.le_of_ble_eq_true rfl) (Nat.le_of_ble_eq_true rfl) (Nat.le_of_ble_eq_true rfl)) rfl ?_
  refine j_iadd C dX21_sees_21 ?_
  obtain ⟨rfl, rfl⟩ := sp2 h
  exact j_iret C dX21_sees_22 (Nat.le_of_ble_eq_true rfl) (Nat.le_of_ble_eq_true rfl) ⟨rfl, rfl⟩
/-! tells -/
def k21_14_tells (T : XS) (a0 : Nat) (p1 : Int32) : Option (Int32 × XS) :=
  (getO T a0 21).bind fun q1 =>
  (x_ran T 2).bind fun T3 =>
  (getO T3 a0 21).bind fun q5 =>
  b2 (k21_21_sees T3 a0 p1) fun v8 T9 =>
  (getO T9 a0 21).bind fun q10 =>
  b2 (k21_18_fears T9 a0 1) fun v13 T14 =>
  some ((v8 - v13), T14)
theorem mt_k21_14_tells {κ : jK} (hκ : jX κ) (G : Nat → Nat) {T : XS} {a0 : Nat} {p1 : Int32} {v : Int32} {T' : XS} (h : k21_14_tells T a0 p1 = some (v, T')) : jM κ yX14_tells (ws_ yX14_tells cX14_tells 3 (some .int)) 5 0 0 [.ref a0, .int p1] (wX κ G T) (fun u w' => u = some (.int v) ∧ w' = wX κ G T') := by
  rw [k21_14_tells] at h
  refine jM.of (by decide) rfl (Nat.le_of_ble_eq_true rfl) fun Γ C _ => ?_
  show J κ Γ (5, 0, 0, (fun u w' => u = some (.int v) ∧ w' = wX κ G T')) 3 (wX κ G T) 0 0 0 [some (.ref a0), some (.int p1), none] []
  refine j_aload_n C dX14_tells_0 rfl rfl ?_
  obtain ⟨q1, g2, h⟩ := ob h
  refine jx_gt21 hκ C g2 1 (by decide) rfl q1176 dX14_tells_1 ?_
  refine j_iconst C (v := 2) dX14_tells_4 rfl ?_
  obtain ⟨T3, e4, h⟩ := ob h
  refine jx_ran hκ C e4 q1292 dX14_tells_5 (jfit.of (Nat.le_of_ble_eq_true rfl) (by decide) (Nat.le_of_ble_eq_true rfl) (Nat.le_of_ble_eq_true rfl) (Nat.le_of_ble_eq_true rfl)) ?_
  refine j_aload_n C dX14_tells_8 rfl rfl ?_
  refine j_iload_n C dX14_tells_9 rfl rfl ?_
  obtain ⟨q5, g6, h⟩ := ob h
  obtain ⟨v8, T9, e7, h⟩ := ob2 h
  refine jx_U (As := [.int p1]) hκ C (mt_k21_21_sees hκ G e7) ⟨q1330, q1333, q1349, q1350, q148, q1351, (Or.inl q1355), by decide, by decide⟩ (N := 1) (by decide +kernel) rfl g6 (by decide) rfl rfl dX14_tells_10 (jfit.of (Nat.le_of_ble_eq_true rfl) (by decide) (Nat.le_of_ble_eq_true rfl) (Nat.le_of_ble_eq_true rfl) (Nat.le_of_ble_eq_true rfl)) rfl ?_
  refine j_istore_n C dX14_tells_13 rfl (by decide) rfl ?_
  refine j_iload_n C dX14_tells_14 rfl rfl ?_
  refine j_aload_n C dX14_tells_15 rfl rfl ?_
  refine j_iconst C (v := 1) dX14_tells_16 rfl ?_
  obtain ⟨q10, g11, h⟩ := ob h
  obtain ⟨v13, T14, e12, h⟩ := ob2 h
  refine jx_U (As := [.int 1]) hκ C (mt_k21_18_fears hκ G e12) ⟨q1374, q2242, q2249, q1360, q145, q1361, (Or.inl q1365), by decide, by decide⟩ (N := 1) (by decide +kernel) rfl g11 (by decide) rfl rfl dX14_tells_17 (jfit.of (Nat.le_of_ble_eq_true rfl) (by decide) (Nat.le_of_ble_eq_true rfl) (Nat.le_of_ble_eq_true rfl) (Nat.le_of_ble_eq_true rfl)) rfl ?_
  refine j_isub C dX14_tells_20 ?_
  obtain ⟨rfl, rfl⟩ := sp2 h
  exact j_iret C dX14_tells_21 (Nat.le_of_ble_eq_true rfl) (Nat.le_of_ble_eq_true rfl) ⟨rfl, rfl⟩
/-! tells -/
def k21_21_tells (T : XS) (a0 : Nat) (p1 : Int32) : Option (Int32 × XS) :=
  (getO T a0 21).bind fun q1 =>
  (x_ran T 81).bind fun T3 =>
  (getO T3 a0 21).bind fun q5 =>
  b2 (k21_14_tells T3 a0 p1) fun v8 T9 =>
  some ((v8 - 1), T9)
theorem mt_k21_21_tells {κ : jK} (hκ : jX κ) (G : Nat → Nat) {T : XS} {a0 : Nat} {p1 : Int32} {v : Int32} {T' : XS} (h : k21_21_tells T a0 p1 = some (v, T')) : jM κ yX21_tells (ws_ yX21_tells cX21_tells 2 (some .int)) 6 0 0 [.ref a0, .int p1] (wX κ G T) (fun u w' => u = some (.int v) ∧ w' = wX κ G T') := by
  rw [k21_21_tells] at h
  refine jM.of (by decide) rfl (Nat.le_of_ble_eq_true rfl) fun Γ C _ => ?_
  show J κ Γ (6, 0, 0, (fun u w' => u = some (.int v) ∧ w' = wX κ G T')) 2 (wX κ G T) 0 0 0 [some (.ref a0), some (.int p1)] []
  refine j_aload_n C dX21_tells_0 rfl rfl ?_
  obtain ⟨q1, g2, h⟩ := ob h
  refine jx_gt21 hκ C g2 4 (by decide) rfl q1254 dX21_tells_1 ?_
  refine j_bipush C (v := 81) dX21_tells_4 rfl ?_
  obtain ⟨T3, e4, h⟩ := ob h
  refine jx_ran hκ C e4 q1352 dX21_tells_6 (jfit.of (Nat.le_of_ble_eq_true rfl) (by decide) (Nat.le_of_ble_eq_true rfl) (Nat.le_of_ble_eq_true rfl) (Nat.le_of_ble_eq_true rfl)) ?_
  refine j_aload_n C dX21_tells_9 rfl rfl ?_
  refine j_iload_n C dX21_tells_10 rfl rfl ?_
  obtain ⟨q5, g6, h⟩ := ob h
  obtain ⟨v8, T9, e7, h⟩ := ob2 h
  refine jx_SU2 (As := [.int p1]) hκ C (mt_k21_14_tells hκ G e7) (xc := "NineKeysRound$Paper") ⟨q1400, q1401, q1261, (Or.inr ⟨"NineKeysRound$Dent", by decide, q1221, q1183⟩), q1327, q141, q1329, by decide⟩ (N := 1) (by decide +kernel) rfl g6 (by decide) rfl dX21_tells_11 (jfit.of (Nat.le_of_ble_eq_true rfl) (by decide) (Nat.le_of_ble_eq_true rfl) (Nat.le_of_ble_eq_true rfl) (Nat.le_of_ble_eq_true rfl)) rfl ?_
  refine j_iconst C (v := 1) dX21_tells_14 rfl ?_
  refine j_isub C dX21_tells_15 ?_
  obtain ⟨rfl, rfl⟩ := sp2 h
  exact j_iret C dX21_tells_16 (Nat.le_of_ble_eq_true rfl) (Nat.le_of_ble_eq_true rfl) ⟨rfl, rfl⟩
/-! kind -/
def k21_21_kind (T : XS) (a0 : Nat) : Option Int32 :=
  some 7
theorem mt_k21_21_kind {κ : jK} (hκ : jX κ) (G : Nat → Nat) {T : XS} {a0 : Nat} {v : Int32} (h : k21_21_kind T a0 = some v) : jM κ yX21_kind (ws_ yX21_kind cX21_kind 1 (some .int)) 1 0 0 [.ref a0] (wX κ G T) (fun u w' => u = some (.int v) ∧ w' = wX κ G T) := by
  rw [k21_21_kind] at h
  refine jM.of (by decide) rfl (Nat.le_of_ble_eq_true rfl) fun Γ C _ => ?_
  show J κ Γ (1, 0, 0, (fun u w' => u = some (.int v) ∧ w' = wX κ G T)) 1 (wX κ G T) 0 0 0 [some (.ref a0)] []
  refine j_bipush C (v := 7) dX21_kind_0 rfl ?_
  obtain rfl := sp1 h
  exact j_iret C dX21_kind_2 (Nat.le_of_ble_eq_true rfl) (Nat.le_of_ble_eq_true rfl) ⟨rfl, rfl⟩
/-! isUnder -/
def k21_14_isUnder (T : XS) (a0 : Nat) (p1 : Int32) : Option Bool :=
  (if p1 = 0 then
  some true
  else
  (getO T a0 21).bind fun q1 =>
  (k21_21_kind T a0).bind fun v4 =>
  (if p1 = v4 then
  some true
  else
  some false))
theorem mt_k21_14_isUnder {κ : jK} (hκ : jX κ) (G : Nat → Nat) {T : XS} {a0 : Nat} {p1 : Int32} {v : Bool} (h : k21_14_isUnder T a0 p1 = some v) : jM κ yX14_isUnder (ws_ yX14_isUnder cX14_isUnder 2 (some .boolean)) 2 0 0 [.ref a0, .int p1] (wX κ G T) (fun u w' => u = some (.int (b2i v)) ∧ w' = wX κ G T) := by
  rw [k21_14_isUnder] at h
  refine jM.of (by decide) rfl (Nat.le_of_ble_eq_true rfl) fun Γ C _ => ?_
  show J κ Γ (2, 0, 0, (fun u w' => u = some (.int (b2i v)) ∧ w' = wX κ G T)) 2 (wX κ G T) 0 0 0 [some (.ref a0), some (.int p1)] []
  refine j_iload_n C dX14_isUnder_0 rfl rfl ?_
  refine j_if_eq C dX14_isUnder_1 (tgt := 12) (by decide) (fun c => ?_) (fun c => ?_)
  · replace h := ip c h
    refine j_iconst C (v := 1) dX14_isUnder_12 rfl ?_
    refine j_goto C dX14_isUnder_13 (tgt := 17) (by decide) ?_
    obtain rfl := sp1 h
    exact j_zret C rfl dX14_isUnder_17 (Nat.le_of_ble_eq_true rfl) (Nat.le_of_ble_eq_true rfl) ⟨rfl, rfl⟩
  replace h := im c h
  refine j_iload_n C dX14_isUnder_4 rfl rfl ?_
  refine j_aload_n C dX14_isUnder_5 rfl rfl ?_
  obtain ⟨q1, g2, h⟩ := ob h
  obtain ⟨v4, e3, h⟩ := ob h
  refine jx_U (As := []) hκ C (mt_k21_21_kind hκ G e3) ⟨q1585, q1588, q1604, q1605, q148, q1606, (Or.inr ⟨q1586, _, _, _, q1610⟩), by decide, by decide⟩ (N := 0) (by decide +kernel) rfl g2 (by decide) rfl rfl dX14_isUnder_6 (jfit.of (Nat.le_of_ble_eq_true rfl) (by decide) (Nat.le_of_ble_eq_true rfl) (Nat.le_of_ble_eq_true rfl) (Nat.le_of_ble_eq_true rfl)) rfl ?_
  refine j_icmp_ne C dX14_isUnder_9 (tgt := 16) (by decide) (fun c => ?_) (fun c => ?_)
  · replace h := im c h
    refine j_iconst C (v := 0) dX14_isUnder_16 rfl ?_
    obtain rfl := sp1 h
    exact j_zret C rfl dX14_isUnder_17 (Nat.le_of_ble_eq_true rfl) (Nat.le_of_ble_eq_true rfl) ⟨rfl, rfl⟩
  replace h := ip c h
  refine j_iconst C (v := 1) dX14_isUnder_12 rfl ?_
  refine j_goto C dX14_isUnder_13 (tgt := 17) (by decide) ?_
  obtain rfl := sp1 h
  exact j_zret C rfl dX14_isUnder_17 (Nat.le_of_ble_eq_true rfl) (Nat.le_of_ble_eq_true rfl) ⟨rfl, rfl⟩
/-! isUnder -/
def k21_15_isUnder (T : XS) (a0 : Nat) (p1 : Int32) : Option Bool :=
  (if p1 = 1 then
  some true
  else
  (getO T a0 21).bind fun q1 =>
  (k21_14_isUnder T a0 p1).bind fun v4 =>
  (if (b2i v4) = 0 then
  some false
  else
  some true))
theorem mt_k21_15_isUnder {κ : jK} (hκ : jX κ) (G : Nat → Nat) {T : XS} {a0 : Nat} {p1 : Int32} {v : Bool} (h : k21_15_isUnder T a0 p1 = some v) : jM κ yX15_isUnder (ws_ yX15_isUnder cX15_isUnder 2 (some .boolean)) 3 0 0 [.ref a0, .int p1] (wX κ G T) (fun u w' => u = some (.int (b2i v)) ∧ w' = wX κ G T) := by
  rw [k21_15_isUnder] at h
  refine jM.of (by decide) rfl (Nat.le_of_ble_eq_true rfl) fun Γ C _ => ?_
  show J κ Γ (3, 0, 0, (fun u w' => u = some (.int (b2i v)) ∧ w' = wX κ G T)) 2 (wX κ G T) 0 0 0 [some (.ref a0), some (.int p1)] []
  refine j_iload_n C dX15_isUnder_0 rfl rfl ?_
  refine j_iconst C (v := 1) dX15_isUnder_1 rfl ?_
  refine j_icmp_eq C dX15_isUnder_2 (tgt := 13) (by decide) (fun c => ?_) (fun c => ?_)
  · replace h := ip c h
    refine j_iconst C (v := 1) dX15_isUnder_13 rfl ?_
    refine j_goto C dX15_isUnder_14 (tgt := 18) (by decide) ?_
    obtain rfl := sp1 h
    exact j_zret C rfl dX15_isUnder_18 (Nat.le_of_ble_eq_true rfl) (Nat.le_of_ble_eq_true rfl) ⟨rfl, rfl⟩
  replace h := im c h
  refine j_aload_n C dX15_isUnder_5 rfl rfl ?_
  refine j_iload_n C dX15_isUnder_6 rfl rfl ?_
  obtain ⟨q1, g2, h⟩ := ob h
  obtain ⟨v4, e3, h⟩ := ob h
  refine jx_SU (As := [.int p1]) hκ C (mt_k21_14_isUnder hκ G e3) (lw_SU9 q1583 q1579 q1183 q1577 q141 q1584) (N := 1) ⟨by decide, by decide +kernel⟩ rfl g2 (by decide) rfl dX15_isUnder_7 (jfit.of (Nat.le_of_ble_eq_true rfl) (by decide) (Nat.le_of_ble_eq_true rfl) (Nat.le_of_ble_eq_true rfl) (Nat.le_of_ble_eq_true rfl)) rfl ?_
  refine j_if_eq C dX15_isUnder_10 (tgt := 17) (by decide) (fun c => ?_) (fun c => ?_)
  · replace h := ip c h
    refine j_iconst C (v := 0) dX15_isUnder_17 rfl ?_
    obtain rfl := sp1 h
    exact j_zret C rfl dX15_isUnder_18 (Nat.le_of_ble_eq_true rfl) (Nat.le_of_ble_eq_true rfl) ⟨rfl, rfl⟩
  replace h := im c h
  refine j_iconst C (v := 1) dX15_isUnder_13 rfl ?_
  refine j_goto C dX15_isUnder_14 (tgt := 18) (by decide) ?_
  obtain rfl := sp1 h
  exact j_zret C rfl dX15_isUnder_18 (Nat.le_of_ble_eq_true rfl) (Nat.le_of_ble_eq_true rfl) ⟨rfl, rfl⟩
/-! isUnder -/
def k21_18_isUnder (T : XS) (a0 : Nat) (p1 : Int32) : Option Bool :=
  (if p1 = 4 then
  some true
  else
  (getO T a0 21).bind fun q1 =>
  (k21_15_isUnder T a0 p1).bind fun v4 =>
  (if (b2i v4) = 0 then
  some false
  else
  some true))
theorem mt_k21_18_isUnder {κ : jK} (hκ : jX κ) (G : Nat → Nat) {T : XS} {a0 : Nat} {p1 : Int32} {v : Bool} (h : k21_18_isUnder T a0 p1 = some v) : jM κ yX18_isUnder (ws_ yX18_isUnder cX18_isUnder 2 (some .boolean)) 4 0 0 [.ref a0, .int p1] (wX κ G T) (fun u w' => u = some (.int (b2i v)) ∧ w' = wX κ G T) := by
  rw [k21_18_isUnder] at h
  refine jM.of (by decide) rfl (Nat.le_of_ble_eq_true rfl) fun Γ C _ => ?_
  show J κ Γ (4, 0, 0, (fun u w' => u = some (.int (b2i v)) ∧ w' = wX κ G T)) 2 (wX κ G T) 0 0 0 [some (.ref a0), some (.int p1)] []
  refine j_iload_n C dX18_isUnder_0 rfl rfl ?_
  refine j_iconst C (v := 4) dX18_isUnder_1 rfl ?_
  refine j_icmp_eq C dX18_isUnder_2 (tgt := 13) (by decide) (fun c => ?_) (fun c => ?_)
  · replace h := ip c h
    refine j_iconst C (v := 1) dX18_isUnder_13 rfl ?_
    refine j_goto C dX18_isUnder_14 (tgt := 18) (by decide) ?_
    obtain rfl := sp1 h
    exact j_zret C rfl dX18_isUnder_18 (Nat.le_of_ble_eq_true rfl) (Nat.le_of_ble_eq_true rfl) ⟨rfl, rfl⟩
  replace h := im c h
  refine j_aload_n C dX18_isUnder_5 rfl rfl ?_
  refine j_iload_n C dX18_isUnder_6 rfl rfl ?_
  obtain ⟨q1, g2, h⟩ := ob h
  obtain ⟨v4, e3, h⟩ := ob h
  refine jx_SU (As := [.int p1]) hκ C (mt_k21_15_isUnder hκ G e3) (lw_SU9 q1623 q2252 q1221 q1581 q142 q1582) (N := 1) ⟨by decide, by decide +kernel⟩ rfl g2 (by decide) rfl dX18_isUnder_7 (jfit.of (Nat.le_of_ble_eq_true rfl) (by decide) (Nat.le_of_ble_eq_true rfl) (Nat.le_of_ble_eq_true rfl) (Nat.le_of_ble_eq_true rfl)) rfl ?_
  refine j_if_eq C dX18_isUnder_10 (tgt := 17) (by decide) (fun c => ?_) (fun c => ?_)
  · replace h := ip c h
    refine j_iconst C (v := 0) dX18_isUnder_17 rfl ?_
    obtain rfl := sp1 h
    exact j_zret C rfl dX18_isUnder_18 (Nat.le_of_ble_eq_true rfl) (Nat.le_of_ble_eq_true rfl) ⟨rfl, rfl⟩
  replace h := im c h
  refine j_iconst C (v := 1) dX18_isUnder_13 rfl ?_
  refine j_goto C dX18_isUnder_14 (tgt := 18) (by decide) ?_
  obtain rfl := sp1 h
  exact j_zret C rfl dX18_isUnder_18 (Nat.le_of_ble_eq_true rfl) (Nat.le_of_ble_eq_true rfl) ⟨rfl, rfl⟩
