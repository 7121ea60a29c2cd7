set_option maxRecDepth 100000
/-! keep -/
def x_keep_b22 (l1 : Int32) (l2 : Int32) (T : XS) : Option (Int32 × XS) :=
  (if 0 ≤ l2 then
  chk 50 l2 (
  (T.2.2.1 46 l2.toNatClampNeg).bind fun a2 =>
  (T.2.2.2 a2).bind fun q4 =>
  (if q4.1 = 14 then
  chk 6 l1 (
  (getO T a2 14).bind fun q9 =>
  nm (xR T 48 l1.toNatClampNeg (some a2)) fun T7 =>
  some (1, T7))
  else if q4.1 = 15 then
  chk 6 l1 (
  (getO T a2 15).bind fun q14 =>
  nm (xR T 48 l1.toNatClampNeg (some a2)) fun T12 =>
  some (1, T12))
  else if q4.1 = 16 then
  chk 6 l1 (
  (getO T a2 16).bind fun q19 =>
  nm (xR T 48 l1.toNatClampNeg (some a2)) fun T17 =>
  some (1, T17))
  else if q4.1 = 17 then
  chk 6 l1 (
  (getO T a2 17).bind fun q24 =>
  nm (xR T 48 l1.toNatClampNeg (some a2)) fun T22 =>
  some (1, T22))
  else if q4.1 = 18 then
  chk 6 l1 (
  (getO T a2 18).bind fun q29 =>
  nm (xR T 48 l1.toNatClampNeg (some a2)) fun T27 =>
  some (1, T27))
  else if q4.1 = 19 then
  chk 6 l1 (
  (getO T a2 19).bind fun q34 =>
  nm (xR T 48 l1.toNatClampNeg (some a2)) fun T32 =>
  some (1, T32))
  else if q4.1 = 20 then
  chk 6 l1 (
  (getO T a2 20).bind fun q39 =>
  nm (xR T 48 l1.toNatClampNeg (some a2)) fun T37 =>
  some (1, T37))
  else if q4.1 = 21 then
  chk 6 l1 (
  (getO T a2 21).bind fun q44 =>
  nm (xR T 48 l1.toNatClampNeg (some a2)) fun T42 =>
  some (1, T42))
  else none))
  else
  chk 6 l1 (
  nm (xR T 48 l1.toNatClampNeg none) fun T47 =>
  some (1, T47)))
theorem wx_keep_b22 {κ : jK} (hκ : jX κ) {Γ : jG} (C : jC κ Γ cX0_keep 3 RX0 (some .int)) {G : Nat → Nat} (l1 : Int32) (l2 : Int32) {v : Int32} {T' : XS} : ∀ (T : XS), x_keep_b22 l1 l2 T = some (v, T') → J κ Γ (2, 0, 0, (fun u w' => u = some (.int v) ∧ w' = wX κ G T')) 3 (wX κ G T) 0 0 22 [some (.ref (G 0)), some (.int l1), some (.int l2)] [] := by
  intro T h
  rw [x_keep_b22] at h
  refine j_aload_n C dX0_keep_22 rfl rfl ?_
  refine jx_geta hκ C 48 (by decide) rfl rfl q237 dX0_keep_23 ?_
  refine j_iload_n C dX0_keep_26 rfl rfl ?_
  refine j_iload_n C dX0_keep_27 rfl rfl ?_
  refine j_if_ge C dX0_keep_28 (tgt := 35) (by decide) (fun c => ?_) (fun c => ?_)
  · replace h := ip c h
    refine j_aload_n C dX0_keep_35 rfl rfl ?_
    refine jx_geta hκ C 46 (by decide) rfl rfl q235 dX0_keep_36 ?_
    refine j_iload_n C dX0_keep_39 rfl rfl ?_
    obtain ⟨b1, h⟩ := chk_some h
    obtain ⟨a2, w3, h⟩ := ob h
    refine jx_aaldP hκ C 46 rfl rfl b1 w3 dX0_keep_40 ?_
    obtain ⟨q4, g5, h⟩ := ob h
    by_cases c10 : q4.1 = 14
    · replace h := ip c10 h
      obtain ⟨b6, h⟩ := chk_some h
      obtain ⟨q9, g8, h⟩ := ob h
      refine jx_aastO hκ C 48 rfl rfl b6 g8 (by decide) rfl q2273 dX0_keep_41 ?_
      refine jx_nmT h (fun T7 h => ?_)
      refine j_iconst C (v := 1) dX0_keep_42 rfl ?_
      obtain ⟨rfl, rfl⟩ := sp2 h
      exact j_iret C dX0_keep_43 (Nat.le_of_ble_eq_true rfl) (Nat.le_of_ble_eq_true rfl) ⟨rfl, rfl⟩
    replace h := im c10 h
    by_cases c15 : q4.1 = 15
    · replace h := ip c15 h
      obtain ⟨b11, h⟩ := chk_some h
      obtain ⟨q14, g13, h⟩ := ob h
      refine jx_aastO hκ C 48 rfl rfl b11 g13 (by decide) rfl q2266 dX0_keep_41 ?_
      refine jx_nmT h (fun T12 h => ?_)
      refine j_iconst C (v := 1) dX0_keep_42 rfl ?_
      obtain ⟨rfl, rfl⟩ := sp2 h
      exact j_iret C dX0_keep_43 (Nat.le_of_ble_eq_true rfl) (Nat.le_of_ble_eq_true rfl) ⟨rfl, rfl⟩
    replace h := im c15 h
    by_cases c20 : q4.1 = 16
    · replace h := ip c20 h
      obtain ⟨b16, h⟩ := chk_some h
      obtain ⟨q19, g18, h⟩ := ob h
      refine jx_aastO hκ C 48 rfl rfl b16 g18 (by decide) rfl q2267 dX0_keep_41 ?_
      refine jx_nmT h (fun T17 h => ?_)
      refine j_iconst C (v := 1) dX0_keep_42 rfl ?_
      obtain ⟨rfl, rfl⟩ := sp2 h
      exact j_iret C dX0_keep_43 (Nat.le_of_ble_eq_true rfl) (Nat.le_of_ble_eq_true rfl) ⟨rfl, rfl⟩
    replace h := im c20 h
    by_cases c25 : q4.1 = 17
    · replace h := ip c25 h
      obtain ⟨b21, h⟩ := chk_some h
      obtain ⟨q24, g23, h⟩ := ob h
      refine jx_aastO hκ C 48 rfl rfl b21 g23 (by decide) rfl q2268 dX0_keep_41 ?_
      refine jx_nmT h (fun T22 h => ?_)
      refine j_iconst C (v := 1) dX0_keep_42 rfl ?_
      obtain ⟨rfl, rfl⟩ := sp2 h
      exact j_iret C dX0_keep_43 (Nat.le_of_ble_eq_true rfl) (Nat.le_of_ble_eq_true rfl) ⟨rfl, rfl⟩
    replace h := im c25 h
    by_cases c30 : q4.1 = 18
    · replace h := ip c30 h
      obtain ⟨b26, h⟩ := chk_some h
      obtain ⟨q29, g28, h⟩ := ob h
      refine jx_aastO hκ C 48 rfl rfl b26 g28 (by decide) rfl q2269 dX0_keep_41 ?_
      refine jx_nmT h (fun T27 h => ?_)
      refine j_iconst C (v := 1) dX0_keep_42 rfl ?_
      obtain ⟨rfl, rfl⟩ := sp2 h
      exact j_iret C dX0_keep_43 (Nat.le_of_ble_eq_true rfl) (Nat.le_of_ble_eq_true rfl) ⟨rfl, rfl⟩
    replace h := im c30 h
    by_cases c35 : q4.1 = 19
    · replace h := ip c35 h
      obtain ⟨b31, h⟩ := chk_some h
      obtain ⟨q34, g33, h⟩ := ob h
      refine jx_aastO hκ C 48 rfl rfl b31 g33 (by decide) rfl q2270 dX0_keep_41 ?_
      refine jx_nmT h (fun T32 h => ?_)
      refine j_iconst C (v := 1) dX0_keep_42 rfl ?_
      obtain ⟨rfl, rfl⟩ := sp2 h
      exact j_iret C dX0_keep_43 (Nat.le_of_ble_eq_true rfl) (Nat.le_of_ble_eq_true rfl) ⟨rfl, rfl⟩
    replace h := im c35 h
    by_cases c40 : q4.1 = 20
    · replace h := ip c40 h
      obtain ⟨b36, h⟩ := chk_some h
      obtain ⟨q39, g38, h⟩ := ob h
      refine jx_aastO hκ C 48 rfl rfl b36 g38 (by decide) rfl q2271 dX0_keep_41 ?_
      refine jx_nmT h (fun T37 h => ?_)
      refine j_iconst C (v := 1) dX0_keep_42 rfl ?_
      obtain ⟨rfl, rfl⟩ := sp2 h
      exact j_iret C dX0_keep_43 (Nat.le_of_ble_eq_true rfl) (Nat.le_of_ble_eq_true rfl) ⟨rfl, rfl⟩
    replace h := im c40 h
    by_cases c45 : q4.1 = 21
    · replace h := ip c45 h
      obtain ⟨b41, h⟩ := chk_some h
      obtain ⟨q44, g43, h⟩ := ob h
      refine jx_aastO hκ C 48 rfl rfl b41 g43 (by decide) rfl q2272 dX0_keep_41 ?_
      refine jx_nmT h (fun T42 h => ?_)
      refine j_iconst C (v := 1) dX0_keep_42 rfl ?_
      obtain ⟨rfl, rfl⟩ := sp2 h
      exact j_iret C dX0_keep_43 (Nat.le_of_ble_eq_true rfl) (Nat.le_of_ble_eq_true rfl) ⟨rfl, rfl⟩
    replace h := im c45 h
    cases h
  replace h := im c h
  refine j_null C dX0_keep_31 ?_
  refine j_goto C dX0_keep_32 (tgt := 41) (by decide) ?_
  obtain ⟨b46, h⟩ := chk_some h
  refine jx_aastN hκ C 48 rfl rfl b46 dX0_keep_41 ?_
  refine jx_nmT h (fun T47 h => ?_)
  refine j_iconst C (v := 1) dX0_keep_42 rfl ?_
  obtain ⟨rfl, rfl⟩ := sp2 h
  exact j_iret C dX0_keep_43 (Nat.le_of_ble_eq_true rfl) (Nat.le_of_ble_eq_true rfl) ⟨rfl, rfl⟩
def x_keep (T : XS) (p1 : Int32) (p2 : Int32) : Option (Int32 × XS) :=
  (x_isShelf p1).bind fun v2 =>
  (if (b2i v2) = 0 then
  some ((-1), T)
  else
  (if p2 = (-1) then
  x_keep_b22 p1 p2 T
  else
  (x_isBody T p2).bind fun v4 =>
  (if (b2i v4) = 0 then
  some ((-1), T)
  else
  x_keep_b22 p1 p2 T)))
theorem mt_x_keep {κ : jK} (hκ : jX κ) (G : Nat → Nat) {T : XS} {p1 : Int32} {p2 : Int32} {v : Int32} {T' : XS} (h : x_keep T p1 p2 = some (v, T')) : jM κ yX0_keep (ws_ yX0_keep cX0_keep 3 (some .int)) 2 0 0 [.ref (G 0), .int p1, .int p2] (wX κ G T) (fun u w' => u = some (.int v) ∧ w' = wX κ G T') := by
  rw [x_keep] at h
  refine jM.of (by decide) rfl (Nat.le_of_ble_eq_true rfl) fun Γ C _ => ?_
  show J κ Γ (2, 0, 0, (fun u w' => u = some (.int v) ∧ w' = wX κ G T')) 3 (wX κ G T) 0 0 0 [some (.ref (G 0)), some (.int p1), some (.int p2)] []
  refine j_iload_n C dX0_keep_0 rfl rfl ?_
  obtain ⟨v2, e1, h⟩ := ob h
  refine j_Si hκ.1.1 C (mt_x_isShelf hκ e1) hG_x_isShelf hy_x_isShelf rfl dX0_keep_1 (jfit.of (Nat.le_of_ble_eq_true rfl) (by decide) (Nat.le_of_ble_eq_true rfl) (Nat.le_of_ble_eq_true rfl) (Nat.le_of_ble_eq_true rfl)) rfl ?_
  refine j_if_eq C dX0_keep_4 (tgt := 20) (by decide) (fun c => ?_) (fun c => ?_)
  · replace h := ip c h
    refine j_iconst C (v := (-1)) dX0_keep_20 rfl ?_
    obtain ⟨rfl, rfl⟩ := sp2 h
    exact j_iret C dX0_keep_21 (Nat.le_of_ble_eq_true rfl) (Nat.le_of_ble_eq_true rfl) ⟨rfl, rfl⟩
  replace h := im c h
  refine j_iload_n C dX0_keep_7 rfl rfl ?_
  refine j_iconst C (v := (-1)) dX0_keep_8 rfl ?_
  refine j_icmp_eq C dX0_keep_9 (tgt := 22) (by decide) (fun c => ?_) (fun c => ?_)
  · replace h := ip c h
    exact j_sub (wx_keep_b22 hκ C _ _ _ h) ⟨rfl, ⟨rfl, ⟨rfl, trivial⟩⟩⟩
  replace h := im c h
  refine j_aload_n C dX0_keep_12 rfl rfl ?_
  refine j_iload_n C dX0_keep_13 rfl rfl ?_
  obtain ⟨v4, e3, h⟩ := ob h
  refine jx_Vi hκ C (mt_x_isBody hκ G e3) hG_x_isBody hy_x_isBody rfl rfl dX0_keep_14 (jfit.of (Nat.le_of_ble_eq_true rfl) (by decide) (Nat.le_of_ble_eq_true rfl) (Nat.le_of_ble_eq_true rfl) (Nat.le_of_ble_eq_true rfl)) rfl ?_
  refine j_if_ne C dX0_keep_17 (tgt := 22) (by decide) (fun c => ?_) (fun c => ?_)
  · replace h := im c h
    exact j_sub (wx_keep_b22 hκ C _ _ _ h) ⟨rfl, ⟨rfl, ⟨rfl, trivial⟩⟩⟩
  replace h := ip c h
  refine j_iconst C (v := (-1)) dX0_keep_20 rfl ?_
  obtain ⟨rfl, rfl⟩ := sp2 h
  exact j_iret C dX0_keep_21 (Nat.le_of_ble_eq_true rfl) (Nat.le_of_ble_eq_true rfl) ⟨rfl, rfl⟩
