set_option maxRecDepth 100000
/-! image -/
def x_image_b7 (N : Nat) : Nat → XS → Int32 → Option (Int32 × XS)
  | 0, _, _ => none
  | n + 1, T, l1 =>
    (if (T.1 1) ≤ l1 then
    nm (xI T 37 (T.1 1)) fun T1 =>
    nm (xI T1 38 (T1.1 29)) fun T2 =>
    nm (xI T2 39 (T2.1 30)) fun T3 =>
    nm (xI T3 40 (T3.1 31)) fun T4 =>
    nm (xI T4 41 (T4.1 32)) fun T5 =>
    nm (xI T5 42 (T5.1 33)) fun T6 =>
    nm (xI T6 43 (T6.1 34)) fun T7 =>
    some (T7.1 30, T7)
    else
    chk 9 l1 (
    (T.2.2.1 0 l1.toNatClampNeg).bind fun a9 =>
    (getO T a9 3).bind fun q11 =>
    chk 9 l1 (
    nm (xA T 36 l1.toNatClampNeg (q11.2.1 4)) fun T13 =>
    nm (l1 + 1) fun x15 =>
    x_image_b7 N n T13 x15)))
theorem wx_image_b7 {κ : jK} (hκ : jX κ) (N : Nat) {Γ : jG} (C : jC κ Γ cX0_image 2 RX0 (some .int)) {G : Nat → Nat}  {v : Int32} {T' : XS} : ∀ (n : Nat) (T : XS) (l1 : Int32), x_image_b7 N n T l1 = some (v, T') → J κ Γ (0, 0, 0, (fun u w' => u = some (.int v) ∧ w' = wX κ G T')) 2 (wX κ G T) 0 0 7 [some (.ref (G 0)), some (.int l1)] [] := by
  intro n
  induction n with
  | zero => intro _ _ h; cases h
  | succ n ih =>
    intro T l1 h
    rw [x_image_b7] at h
    refine j_iload_n C dX0_image_7 rfl rfl ?_
    refine j_aload_n C dX0_image_8 rfl rfl ?_
    refine jx_geti hκ C 1 (by decide) rfl q188 dX0_image_9 ?_
    refine j_icmp_ge C dX0_image_12 (tgt := 36) (by decide) (fun c => ?_) (fun c => ?_)
    · replace h := ip c h
      refine j_aload_n C dX0_image_36 rfl rfl ?_
      refine j_aload_n C dX0_image_37 rfl rfl ?_
      refine jx_geti hκ C 1 (by decide) rfl q188 dX0_image_38 ?_
      refine jx_puti hκ C 37 (by decide) rfl rfl rfl q226 dX0_image_41 ?_
      refine jx_nmT h (fun T1 h => ?_)
      refine j_aload_n C dX0_image_44 rfl rfl ?_
      refine j_aload_n C dX0_image_45 rfl rfl ?_
      refine jx_geti hκ C 29 (by decide) rfl q218 dX0_image_46 ?_
      refine jx_puti hκ C 38 (by decide) rfl rfl rfl q227 dX0_image_49 ?_
      refine jx_nmT h (fun T2 h => ?_)
      refine j_aload_n C dX0_image_52 rfl rfl ?_
      refine j_aload_n C dX0_image_53 rfl rfl ?_
      refine jx_geti hκ C 30 (by decide) rfl q219 dX0_image_54 ?_
      refine jx_puti hκ C 39 (by decide) rfl rfl rfl q228 dX0_image_57 ?_
      refine jx_nmT h (fun T3 h => ?_)
      refine j_aload_n C dX0_image_60 rfl rfl ?_
      refine j_aload_n C dX0_image_61 rfl rfl ?_
      refine jx_geti hκ C 31 (by decide) rfl q220 dX0_image_62 ?_
      refine jx_puti hκ C 40 (by decide) rfl rfl rfl q229 dX0_image_65 ?_
      refine jx_nmT h (fun T4 h => ?_)
      refine j_aload_n C dX0_image_68 rfl rfl ?_
      refine j_aload_n C dX0_image_69 rfl rfl ?_
      refine jx_geti hκ C 32 (by decide) rfl q221 dX0_image_70 ?_
      refine jx_puti hκ C 41 (by decide) rfl rfl rfl q230 dX0_image_73 ?_
      refine jx_nmT h (fun T5 h => ?_)
      refine j_aload_n C dX0_image_76 rfl rfl ?_
      refine j_aload_n C dX0_image_77 rfl rfl ?_
      refine jx_geti hκ C 33 (by decide) rfl q222 dX0_image_78 ?_
      refine jx_puti hκ C 42 (by decide) rfl rfl rfl q231 dX0_image_81 ?_
      refine jx_nmT h (fun T6 h => ?_)
      refine j_aload_n C dX0_image_84 rfl rfl ?_
      refine j_aload_n C dX0_image_85 rfl rfl ?_
      refine jx_geti hκ C 34 (by decide) rfl q223 dX0_image_86 ?_
      refine jx_puti hκ C 43 (by decide) rfl rfl rfl q232 dX0_image_89 ?_
      refine jx_nmT h (fun T7 h => ?_)
      refine j_aload_n C dX0_image_92 rfl rfl ?_
      refine jx_geti hκ C 30 (by decide) rfl q219 dX0_image_93 ?_
      obtain ⟨rfl, rfl⟩ := sp2 h
      exact j_iret C dX0_image_96 (Nat.le_of_ble_eq_true rfl) (Nat.le_of_ble_eq_true rfl) ⟨rfl, rfl⟩
    replace h := im c h
    refine j_aload_n C dX0_image_15 rfl rfl ?_
    refine jx_geta hκ C 36 (by decide) rfl rfl q225 dX0_image_16 ?_
    refine j_iload_n C dX0_image_19 rfl rfl ?_
    refine j_aload_n C dX0_image_20 rfl rfl ?_
    refine jx_geta hκ C 0 (by decide) rfl rfl q187 dX0_image_21 ?_
    refine j_iload_n C dX0_image_24 rfl rfl ?_
    obtain ⟨b8, h⟩ := chk_some h
    obtain ⟨a9, w10, h⟩ := ob h
    refine jx_aaldP hκ C 0 rfl rfl b8 w10 dX0_image_25 ?_
    obtain ⟨q11, g12, h⟩ := ob h
    refine jx_gi3N hκ C g12 4 (by decide) rfl q365 dX0_image_26 ?_
    obtain ⟨b14, h⟩ := chk_some h
    refine jx_iast hκ C 36 rfl rfl b14 dX0_image_29 ?_
    refine jx_nmT h (fun T13 h => ?_)
    refine j_iincN C h dX0_image_30 rfl rfl (by decide) rfl (fun x15 h => ?_)
    refine j_goto C dX0_image_33 (tgt := 7) (by decide) ?_
    exact j_sub (ih _ _ h) ⟨rfl, ⟨rfl, trivial⟩⟩
def x_image (N : Nat) (T : XS) : Option (Int32 × XS) :=
  nm (xI T 35 1) fun T1 =>
  x_image_b7 N N T1 0
theorem mt_x_image {κ : jK} (hκ : jX κ) (N : Nat) (G : Nat → Nat) {T : XS} {v : Int32} {T' : XS} (h : x_image N T = some (v, T')) : jM κ yX0_image (ws_ yX0_image cX0_image 2 (some .int)) 0 0 0 [.ref (G 0)] (wX κ G T) (fun u w' => u = some (.int v) ∧ w' = wX κ G T') := by
  rw [x_image] at h
  refine jM.of (by decide) rfl (Nat.le_of_ble_eq_true rfl) fun Γ C _ => ?_
  show J κ Γ (0, 0, 0, (fun u w' => u = some (.int v) ∧ w' = wX κ G T')) 2 (wX κ G T) 0 0 0 [some (.ref (G 0)), none] []
  refine j_aload_n C dX0_image_0 rfl rfl ?_
  refine j_iconst C (v := 1) dX0_image_1 rfl ?_
  refine jx_putz hκ C 35 (by decide) rfl rfl rfl rfl rfl q224 dX0_image_2 ?_
  refine jx_nmT h (fun T1 h => ?_)
  refine j_iconst C (v := 0) dX0_image_5 rfl ?_
  refine j_istore_n C dX0_image_6 rfl (by decide) rfl ?_
  exact j_sub (wx_image_b7 hκ N C N _ _ h) ⟨rfl, ⟨rfl, trivial⟩⟩
/-! back -/
def x_back_b12 (N : Nat) : Nat → XS → Int32 → Option (Int32 × XS)
  | 0, _, _ => none
  | n + 1, T, l1 =>
    (if (T.1 1) ≤ l1 then
    nm (xI T 29 (T.1 38)) fun T1 =>
    nm (xI T1 30 (T1.1 39)) fun T2 =>
    nm (xI T2 31 (T2.1 40)) fun T3 =>
    nm (xI T3 32 (T3.1 41)) fun T4 =>
    nm (xI T4 33 (T4.1 42)) fun T5 =>
    nm (xI T5 34 (T5.1 43)) fun T6 =>
    some (T6.1 30, T6)
    else
    chk 9 l1 (
    (T.2.2.1 0 l1.toNatClampNeg).bind fun a8 =>
    (if (T.1 37) ≤ l1 then
    (getO T a8 3).bind fun q10 =>
    nm (xO T a8 (oI q10 4 0)) fun T12 =>
    nm (l1 + 1) fun x13 =>
    x_back_b12 N n T12 x13
    else
    chk 9 l1 (
    (getO T a8 3).bind fun q15 =>
    nm (xO T a8 (oI q15 4 (T.2.1 36 l1.toNatClampNeg))) fun T17 =>
    nm (l1 + 1) fun x18 =>
    x_back_b12 N n T17 x18))))
theorem wx_back_b12 {κ : jK} (hκ : jX κ) (N : Nat) {Γ : jG} (C : jC κ Γ cX0_back 2 RX0 (some .int)) {G : Nat → Nat}  {v : Int32} {T' : XS} : ∀ (n : Nat) (T : XS) (l1 : Int32), x_back_b12 N n T l1 = some (v, T') → J κ Γ (0, 0, 0, (fun u w' => u = some (.int v) ∧ w' = wX κ G T')) 2 (wX κ G T) 0 0 12 [some (.ref (G 0)), some (.int l1)] [] := by
  intro n
  induction n with
  | zero => intro _ _ h; cases h
  | succ n ih =>
    intro T l1 h
    rw [x_back_b12] at h
    refine j_iload_n C dX0_back_12 rfl rfl ?_
    refine j_aload_n C dX0_back_13 rfl rfl ?_
    refine jx_geti hκ C 1 (by decide) rfl q188 dX0_back_14 ?_
    refine j_icmp_ge C dX0_back_17 (tgt := 53) (by decide) (fun c => ?_) (fun c => ?_)
    · replace h := ip c h
      refine j_aload_n C dX0_back_53 rfl rfl ?_
      refine j_aload_n C dX0_back_54 rfl rfl ?_
      refine jx_geti hκ C 38 (by decide) rfl q227 dX0_back_55 ?_
      refine jx_puti hκ C 29 (by decide) rfl rfl rfl q218 dX0_back_58 ?_
      refine jx_nmT h (fun T1 h => ?_)
      refine j_aload_n C dX0_back_61 rfl rfl ?_
      refine j_aload_n C dX0_back_62 rfl rfl ?_
      refine jx_geti hκ C 39 (by decide) rfl q228 dX0_back_63 ?_
      refine jx_puti hκ C 30 (by decide) rfl rfl rfl q219 dX0_back_66 ?_
      refine jx_nmT h (fun T2 h => ?_)
      refine j_aload_n C dX0_back_69 rfl rfl ?_
      refine j_aload_n C dX0_back_70 rfl rfl ?_
      refine jx_geti hκ C 40 (by decide) rfl q229 dX0_back_71 ?_
      refine jx_puti hκ C 31 (by decide) rfl rfl rfl q220 dX0_back_74 ?_
      refine jx_nmT h (fun T3 h => ?_)
      refine j_aload_n C dX0_back_77 rfl rfl ?_
      refine j_aload_n C dX0_back_78 rfl rfl ?_
      refine jx_geti hκ C 41 (by decide) rfl q230 dX0_back_79 ?_
      refine jx_puti hκ C 32 (by decide) rfl rfl rfl q221 dX0_back_82 ?_
      refine jx_nmT h (fun T4 h => ?_)
      refine j_aload_n C dX0_back_85 rfl rfl ?_
      refine j_aload_n C dX0_back_86 rfl rfl ?_
      refine jx_geti hκ C 42 (by decide) rfl q231 dX0_back_87 ?_
      refine jx_puti hκ C 33 (by decide) rfl rfl rfl q222 dX0_back_90 ?_
      refine jx_nmT h (fun T5 h => ?_)
      refine j_aload_n C dX0_back_93 rfl rfl ?_
      refine j_aload_n C dX0_back_94 rfl rfl ?_
      refine jx_geti hκ C 43 (by decide) rfl q232 dX0_back_95 ?_
      refine jx_puti hκ C 34 (by decide) rfl rfl rfl q223 dX0_back_98 ?_
      refine jx_nmT h (fun T6 h => ?_)
      refine j_aload_n C dX0_back_101 rfl rfl ?_
      refine jx_geti hκ C 30 (by decide) rfl q219 dX0_back_102 ?_
      obtain ⟨rfl, rfl⟩ := sp2 h
      exact j_iret C dX0_back_105 (Nat.le_of_ble_eq_true rfl) (Nat.le_of_ble_eq_true rfl) ⟨rfl, rfl⟩
    replace h := im c h
    refine j_aload_n C dX0_back_20 rfl rfl ?_
    refine jx_geta hκ C 0 (by decide) rfl rfl q187 dX0_back_21 ?_
    refine j_iload_n C dX0_back_24 rfl rfl ?_
    obtain ⟨b7, h⟩ := chk_some h
    obtain ⟨a8, w9, h⟩ := ob h
    refine jx_aaldP hκ C 0 rfl rfl b7 w9 dX0_back_25 ?_
    refine j_iload_n C dX0_back_26 rfl rfl ?_
    refine j_aload_n C dX0_back_27 rfl rfl ?_
    refine jx_geti hκ C 37 (by decide) rfl q226 dX0_back_28 ?_
    refine j_icmp_ge C dX0_back_31 (tgt := 43) (by decide) (fun c => ?_) (fun c => ?_)
    · replace h := ip c h
      refine j_iconst C (v := 0) dX0_back_43 rfl ?_
      obtain ⟨q10, g11, h⟩ := ob h
      refine jx_pi3N hκ C g11 4 (by decide) rfl rfl rfl q365 dX0_back_44 ?_
      refine jx_nmT h (fun T12 h => ?_)
      refine j_iincN C h dX0_back_47 rfl rfl (by decide) rfl (fun x13 h => ?_)
      refine j_goto C dX0_back_50 (tgt := 12) (by decide) ?_
      exact j_sub (ih _ _ h) ⟨rfl, ⟨rfl, trivial⟩⟩
    replace h := im c h
    refine j_aload_n C dX0_back_34 rfl rfl ?_
    refine jx_geta hκ C 36 (by decide) rfl rfl q225 dX0_back_35 ?_
    refine j_iload_n C dX0_back_38 rfl rfl ?_
    obtain ⟨b14, h⟩ := chk_some h
    refine jx_iald hκ C 36 rfl rfl b14 dX0_back_39 ?_
    refine j_goto C dX0_back_40 (tgt := 44) (by decide) ?_
    obtain ⟨q15, g16, h⟩ := ob h
    refine jx_pi3N hκ C g16 4 (by decide) rfl rfl rfl q365 dX0_back_44 ?_
    refine jx_nmT h (fun T17 h => ?_)
    refine j_iincN C h dX0_back_47 rfl rfl (by decide) rfl (fun x18 h => ?_)
    refine j_goto C dX0_back_50 (tgt := 12) (by decide) ?_
    exact j_sub (ih _ _ h) ⟨rfl, ⟨rfl, trivial⟩⟩
def x_back (N : Nat) (T : XS) : Option (Int32 × XS) :=
  (if (T.1 35) = 0 then
  some ((-5), T)
  else
  x_back_b12 N N T 0)
theorem mt_x_back {κ : jK} (hκ : jX κ) (N : Nat) (G : Nat → Nat) {T : XS} {v : Int32} {T' : XS} (h : x_back N T = some (v, T')) : jM κ yX0_back (ws_ yX0_back cX0_back 2 (some .int)) 0 0 0 [.ref (G 0)] (wX κ G T) (fun u w' => u = some (.int v) ∧ w' = wX κ G T') := by
  rw [x_back] at h
  refine jM.of (by decide) rfl (Nat.le_of_ble_eq_true rfl) fun Γ C _ => ?_
  show J κ Γ (0, 0, 0, (fun u w' => u = some (.int v) ∧ w' = wX κ G T')) 2 (wX κ G T) 0 0 0 [some (.ref (G 0)), none] []
  refine j_aload_n C dX0_back_0 rfl rfl ?_
  refine jx_geti hκ C 35 (by decide) rfl q224 dX0_back_1 ?_
  refine j_if_ne C dX0_back_4 (tgt := 10) (by decide) (fun c => ?_) (fun c => ?_)
  · replace h := im c h
    refine j_iconst C (v := 0) dX0_back_10 rfl ?_
    refine j_istore_n C dX0_back_11 rfl (by decide) rfl ?_
    exact j_sub (wx_back_b12 hκ N C N _ _ h) ⟨rfl, ⟨rfl, trivial⟩⟩
  replace h := ip c h
  refine j_bipush C (v := (-5)) dX0_back_7 rfl ?_
  obtain ⟨rfl, rfl⟩ := sp2 h
  exact j_iret C dX0_back_9 (Nat.le_of_ble_eq_true rfl) (Nat.le_of_ble_eq_true rfl) ⟨rfl, rfl⟩
/-! isBody -/
def x_isBody (T : XS) (p1 : Int32) : Option Bool :=
  (x_in p1 0 ((T.1 47) - 1)).bind fun v2 =>
  some v2
theorem mt_x_isBody {κ : jK} (hκ : jX κ) (G : Nat → Nat) {T : XS} {p1 : Int32} {v : Bool} (h : x_isBody T p1 = some v) : jM κ yX0_isBody (ws_ yX0_isBody cX0_isBody 2 (some .boolean)) 1 0 0 [.ref (G 0), .int p1] (wX κ G T) (fun u w' => u = some (.int (b2i v)) ∧ w' = wX κ G T) := by
  rw [x_isBody] at h
  refine jM.of (by decide) rfl (Nat.le_of_ble_eq_true rfl) fun Γ C _ => ?_
  show J κ Γ (1, 0, 0, (fun u w' => u = some (.int (b2i v)) ∧ w' = wX κ G T)) 2 (wX κ G T) 0 0 0 [some (.ref (G 0)), some (.int p1)] []
  refine j_iload_n C dX0_isBody_0 rfl rfl ?_
  refine j_iconst C (v := 0) dX0_isBody_1 rfl ?_
  refine j_aload_n C dX0_isBody_2 rfl rfl ?_
  refine jx_geti hκ C 47 (by decide) rfl q236 dX0_isBody_3 ?_
  refine j_iconst C (v := 1) dX0_isBody_6 rfl ?_
  refine j_isub C dX0_isBody_7 ?_
  obtain ⟨v2, e1, h⟩ := ob h
  refine j_Si hκ.1.1 C (mt_x_in hκ e1) hG_x_in hy_x_in rfl dX0_isBody_8 (jfit.of (Nat.le_of_ble_eq_true rfl) (by decide) (Nat.le_of_ble_eq_true rfl) (Nat.le_of_ble_eq_true rfl) (Nat.le_of_ble_eq_true rfl)) rfl ?_
  obtain rfl := sp1 h
  exact j_zret C (b2i_z _) dX0_isBody_11 (Nat.le_of_ble_eq_true rfl) (Nat.le_of_ble_eq_true rfl) ⟨rfl, rfl⟩
/-! ran -/
def x_ran (T : XS) (p1 : Int32) : Option XS :=
  (if 24 ≤ (T.1 44) then
  nm (xI T 44 ((T.1 44) + 1)) fun T1 =>
  some T1
  else
  chk 24 (T.1 44) (
  nm (xA T 45 (T.1 44).toNatClampNeg p1.toInt8.toInt32) fun T2 =>
  nm (xI T2 44 ((T2.1 44) + 1)) fun T4 =>
  some T4))
theorem mt_x_ran {κ : jK} (hκ : jX κ) (G : Nat → Nat) {T : XS} {p1 : Int32} {T' : XS} (h : x_ran T p1 = some T') : jM κ yX0_ran (ws_ yX0_ran cX0_ran 2 none) 0 0 0 [.ref (G 0), .int p1] (wX κ G T) (fun u w' => u = none ∧ w' = wX κ G T') := by
  rw [x_ran] at h
  refine jM.of (by decide) rfl (Nat.le_of_ble_eq_true rfl) fun Γ C _ => ?_
  show J κ Γ (0, 0, 0, (fun u w' => u = none ∧ w' = wX κ G T')) 2 (wX κ G T) 0 0 0 [some (.ref (G 0)), some (.int p1)] []
  refine j_aload_n C dX0_ran_0 rfl rfl ?_
  refine jx_geti hκ C 44 (by decide) rfl q233 dX0_ran_1 ?_
  refine j_bipush C (v := 24) dX0_ran_4 rfl ?_
  refine j_icmp_ge C dX0_ran_6 (tgt := 20) (by decide) (fun c => ?_) (fun c => ?_)
  · replace h := ip c h
    refine j_aload_n C dX0_ran_20 rfl rfl ?_
    refine j_dup C dX0_ran_21 rfl ?_
    refine jx_geti hκ C 44 (by decide) rfl q233 dX0_ran_22 ?_
    refine j_iconst C (v := 1) dX0_ran_25 rfl ?_
    refine j_iadd C dX0_ran_26 ?_
    refine jx_puti hκ C 44 (by decide) rfl rfl rfl q233 dX0_ran_27 ?_
    refine jx_nmT h (fun T1 h => ?_)
    obtain rfl := sp1 h
    exact j_vret C dX0_ran_30 (Nat.le_of_ble_eq_true rfl) (Nat.le_of_ble_eq_true rfl) ⟨rfl, rfl⟩
  replace h := im c h
  refine j_aload_n C dX0_ran_9 rfl rfl ?_
  refine jx_geta hκ C 45 (by decide) rfl rfl q234 dX0_ran_10 ?_
  refine j_aload_n C dX0_ran_13 rfl rfl ?_
  refine jx_geti hκ C 44 (by decide) rfl q233 dX0_ran_14 ?_
  refine j_iload_n C dX0_ran_17 rfl rfl ?_
  refine j_i2b C dX0_ran_18 ?_
  obtain ⟨b3, h⟩ := chk_some h
  refine jx_bastB hκ C 45 rfl rfl b3 dX0_ran_19 ?_
  refine jx_nmT h (fun T2 h => ?_)
  refine j_aload_n C dX0_ran_20 rfl rfl ?_
  refine j_dup C dX0_ran_21 rfl ?_
  refine jx_geti hκ C 44 (by decide) rfl q233 dX0_ran_22 ?_
  refine j_iconst C (v := 1) dX0_ran_25 rfl ?_
  refine j_iadd C dX0_ran_26 ?_
  refine jx_puti hκ C 44 (by decide) rfl rfl rfl q233 dX0_ran_27 ?_
  refine jx_nmT h (fun T4 h => ?_)
  obtain rfl := sp1 h
  exact j_vret C dX0_ran_30 (Nat.le_of_ble_eq_true rfl) (Nat.le_of_ble_eq_true rfl) ⟨rfl, rfl⟩
/-! trace -/
def x_trace (T : XS) (p1 : Int32) : Option Int32 :=
  (if p1 < 0 then
  some (-1)
  else
  (if (T.1 44) ≤ p1 then
  some (-1)
  else
  (if 24 ≤ p1 then
  some (-1)
  else
  chk 24 p1 (
  some (T.2.1 45 p1.toNatClampNeg)))))
theorem mt_x_trace {κ : jK} (hκ : jX κ) (G : Nat → Nat) {T : XS} {p1 : Int32} {v : Int32} (h : x_trace T p1 = some v) : jM κ yX0_trace (ws_ yX0_trace cX0_trace 2 (some .int)) 0 0 0 [.ref (G 0), .int p1] (wX κ G T) (fun u w' => u = some (.int v) ∧ w' = wX κ G T) := by
  rw [x_trace] at h
  refine jM.of (by decide) rfl (Nat.le_of_ble_eq_true rfl) fun Γ C _ => ?_
  show J κ Γ (0, 0, 0, (fun u w' => u = some (.int v) ∧ w' = wX κ G T)) 2 (wX κ G T) 0 0 0 [some (.ref (G 0)), some (.int p1)] []
  refine j_iload_n C dX0_trace_0 rfl rfl ?_
  refine j_if_lt C dX0_trace_1 (tgt := 27) (by decide) (fun c => ?_) (fun c => ?_)
  · replace h := ip c h
    refine j_iconst C (v := (-1)) dX0_trace_27 rfl ?_
    obtain rfl := sp1 h
    exact j_iret C dX0_trace_28 (Nat.le_of_ble_eq_true rfl) (Nat.le_of_ble_eq_true rfl) ⟨rfl, rfl⟩
  replace h := im c h
  refine j_iload_n C dX0_trace_4 rfl rfl ?_
  refine j_aload_n C dX0_trace_5 rfl rfl ?_
  refine jx_geti hκ C 44 (by decide) rfl q233 dX0_trace_6 ?_
  refine j_icmp_ge C dX0_trace_9 (tgt := 27) (by decide) (fun c => ?_) (fun c => ?_)
  · replace h := ip c h
    refine j_iconst C (v := (-1)) dX0_trace_27 rfl ?_
    obtain rfl := sp1 h
    exact j_iret C dX0_trace_28 (Nat.le_of_ble_eq_true rfl) (Nat.le_of_ble_eq_true rfl) ⟨rfl, rfl⟩
  replace h := im c h
  refine j_iload_n C dX0_trace_12 rfl rfl ?_
  refine j_bipush C (v := 24) dX0_trace_13 rfl ?_
  refine j_icmp_ge C dX0_trace_15 (tgt := 27) (by decide) (fun c => ?_) (fun c => ?_)
  · replace h := ip c h
    refine j_iconst C (v := (-1)) dX0_trace_27 rfl ?_
    obtain rfl := sp1 h
    exact j_iret C dX0_trace_28 (Nat.le_of_ble_eq_true rfl) (Nat.le_of_ble_eq_true rfl) ⟨rfl, rfl⟩
  replace h := im c h
  refine j_aload_n C dX0_trace_18 rfl rfl ?_
  refine jx_geta hκ C 45 (by decide) rfl rfl q234 dX0_trace_19 ?_
  refine j_iload_n C dX0_trace_22 rfl rfl ?_
  obtain ⟨b1, h⟩ := chk_some h
  refine jx_bald hκ C 45 rfl rfl b1 dX0_trace_23 ?_
  refine j_goto C dX0_trace_24 (tgt := 28) (by decide) ?_
  obtain rfl := sp1 h
  exact j_iret C dX0_trace_28 (Nat.le_of_ble_eq_true rfl) (Nat.le_of_ble_eq_true rfl) ⟨rfl, rfl⟩
/-! put -/
def x_put (T : XS) (p1 : Int32) (p2 : Int32) (p3 : Int64) : Option (Int32 × XS) :=
  (x_isShelf p1).bind fun v2 =>
  (if (b2i v2) = 0 then
  some ((-1), T)
  else
  chk 6 p1 (
  onl (T.2.2.1 48 p1.toNatClampNeg) (
  some ((-11), T)) fun a6 =>
  (T.2.2.2 a6).bind fun q8 =>
  (if q8.1 = 23 then
  b2 (rowZ T a6 23) fun b10 z11 =>
  (if p2 < 0 ∨ z11.2.2.2.1 ≤ p2.toNatClampNeg then
  (if z11.2.2.2.1 < 2147483648 then
  some ((-13), T)
  else none)
  else
  nm (xO T b10 (rPut 23 z11 p2.toNatClampNeg p3)) fun T16 =>
  (if (1 : Int32)  = 0 then
  some ((-1), T16)
  else
  some (1, T16)))
  else if q8.1 = 24 then
  b2 (rowZ T a6 24) fun b19 z20 =>
  (if p2 < 0 ∨ z20.2.2.2.1 ≤ p2.toNatClampNeg then
  (if z20.2.2.2.1 < 2147483648 then
  some ((-13), T)
  else none)
  else
  nm (xO T b19 (rPut 24 z20 p2.toNatClampNeg p3)) fun T25 =>
  (if (1 : Int32)  = 0 then
  some ((-1), T25)
  else
  some (1, T25)))
  else if q8.1 = 25 then
  b2 (rowZ T a6 25) fun b28 z29 =>
  (if p2 < 0 ∨ z29.2.2.2.1 ≤ p2.toNatClampNeg then
  (if z29.2.2.2.1 < 2147483648 then
  some ((-13), T)
  else none)
  else
  nm (xO T b28 (rPut 25 z29 p2.toNatClampNeg p3)) fun T34 =>
  (if (1 : Int32)  = 0 then
  some ((-1), T34)
  else
  some (1, T34)))
  else if q8.1 = 26 then
  b2 (rowZ T a6 26) fun b37 z38 =>
  (if p2 < 0 ∨ z38.2.2.2.1 ≤ p2.toNatClampNeg then
  (if z38.2.2.2.1 < 2147483648 then
  some ((-13), T)
  else none)
  else
  nm (xO T b37 (rPut 26 z38 p2.toNatClampNeg p3)) fun T43 =>
  (if (1 : Int32)  = 0 then
  some ((-1), T43)
  else
  some (1, T43)))
  else if q8.1 = 27 then
  b2 (rowZ T a6 27) fun b46 z47 =>
  (if p2 < 0 ∨ z47.2.2.2.1 ≤ p2.toNatClampNeg then
  (if z47.2.2.2.1 < 2147483648 then
  some ((-13), T)
  else none)
  else
  nm (xO T b46 (rPut 27 z47 p2.toNatClampNeg p3)) fun T52 =>
  (if (1 : Int32)  = 0 then
  some ((-1), T52)
  else
  some (1, T52)))
  else if q8.1 ∈ [14, 15, 16, 17, 18, 19, 20, 21] then
  some ((-12), T)
  else none)))
theorem mt_x_put {κ : jK} (hκ : jX κ) (G : Nat → Nat) {T : XS} {p1 : Int32} {p2 : Int32} {p3 : Int64} {v : Int32} {T' : XS} (h : x_put T p1 p2 p3 = some (v, T')) : jM κ yX0_put (wsW_ yX0_put cX0_put 6 (some .int) [((9 : Nat), (31 : Nat), (32 : Nat), (135 : Nat)), ((9 : Nat), (31 : Nat), (37 : Nat), (133 : Nat)), ((9 : Nat), (31 : Nat), (42 : Nat), (137 : Nat))]) 230 16 1024 [.ref (G 0), .int p1, .int p2, .long p3] (wX κ G T) (fun u w' => u = some (.int v) ∧ w' = wX κ G T') := by
  rw [x_put] at h
  refine jM.ofH (by decide) rfl (Nat.le_of_ble_eq_true rfl) fun Γ C ht => ?_
  show J κ Γ (230, 16, 1024, (fun u w' => u = some (.int v) ∧ w' = wX κ G T')) 6 (wX κ G T) 0 0 0 [some (.ref (G 0)), some (.int p1), some (.int p2), some (.long p3), none, none] []
  refine j_iload_n C dX0_put_0 rfl rfl ?_
  obtain ⟨v2, e1, h⟩ := ob h
  refine j_Si hκ.1.1 C (mt_x_isShelf hκ e1) hG_x_isShelf hy_x_isShelf rfl dX0_put_1 (jfit.of (Nat.le_of_ble_eq_true rfl) (by decide) (Nat.le_of_ble_eq_true rfl) (Nat.le_of_ble_eq_true rfl) (Nat.le_of_ble_eq_true rfl)) rfl ?_
  refine j_if_ne C dX0_put_4 (tgt := 9) (by decide) (fun c => ?_) (fun c => ?_)
  · replace h := im c h
    refine j_aload_n C dX0_put_9 rfl rfl ?_
    refine jx_geta hκ C 48 (by decide) rfl rfl q237 dX0_put_10 ?_
    refine j_iload_n C dX0_put_13 rfl rfl ?_
    obtain ⟨b3, h⟩ := chk_some h
    refine jx_aald hκ C 48 rfl rfl b3 dX0_put_14 ?_
    rcases onl_some h with ⟨w7, h⟩ | ⟨a6, w7, h⟩
    · refine j_nul w7 ?_
      refine j_castN C dX0_put_15 ?_
      refine j_iload_n C dX0_put_18 rfl rfl ?_
      refine j_lload_n C dX0_put_19 rfl rfl ?_
      refine j_nullX hκ C ht (As := [.int p2, .long p3]) q1501 (Or.inr q1503) (Or.inl q1502) ⟨by decide, by decide⟩ (by show _ = some 2; decide +kernel) dX0_put_20 (jcat_mk [] (9, 31, 32, 135) [(9, 31, 37, 133), (9, 31, 42, 137)] "java/lang/NullPointerException" rfl trivial (by decide) (by decide) q465 q487 rfl) rfl (Nat.le_of_ble_eq_true rfl) (Nat.le_of_ble_eq_true rfl) (Nat.le_of_ble_eq_true rfl) (Nat.le_of_ble_eq_true rfl) (fun e => ?_)
      refine j_widen (k' := 1) (n' := 64) (by decide) (by decide) ?_
      refine j_astore C dX0_put_32 (by decide) rfl ?_
      refine j_bipush C (v := (-11)) dX0_put_34 rfl ?_
      obtain ⟨rfl, rfl⟩ := sp2 h
      exact j_iret C dX0_put_36 (Nat.le_of_ble_eq_true rfl) (Nat.le_of_ble_eq_true rfl) ⟨rfl, rfl⟩
    refine j_nn w7 ?_
    obtain ⟨q8, g9, h⟩ := ob h
    by_cases c18 : q8.1 = 23
    · replace h := ip c18 h
      refine jx_castY hκ C q1500 (getO_eq g9 c18) (by decide) rfl rfl (Or.inl q2255) dX0_put_15 ?_
      refine j_iload_n C dX0_put_18 rfl rfl ?_
      refine j_lload_n C dX0_put_19 rfl rfl ?_
      obtain ⟨b10, z11, r12, h⟩ := ob2 h
      obtain ⟨q13, g14, -, -⟩ := rowZ_some r12
      by_cases c15 : p2 < 0 ∨ z11.2.2.2.1 ≤ p2.toNatClampNeg
      · replace h := ip c15 h
        by_cases c17 : z11.2.2.2.1 < 2147483648
        · replace h := ip c17 h
          refine jx_UX hκ C ht (jcat_mk [(9, 31, 32, 135), (9, 31, 37, 133)] (9, 31, 42, 137) [] "java/lang/IndexOutOfBoundsException" rfl ⟨Or.inr ⟨by decide, "java/lang/NullPointerException", q465, by decide⟩, ⟨Or.inr ⟨by decide, "java/lang/ClassCastException", q381, by decide⟩, trivial⟩⟩ (by decide) (by decide) q490 q2253 rfl) (mt_r_putX23 hκ G r12 (fun f => f c15) c17) ⟨q1501, q1503, q1507, q1508, q151, q1509, (Or.inl q1502), by decide, by decide⟩ (N := 2) (by decide +kernel) rfl g14 (by decide) rfl rfl dX0_put_20 ⟨Nat.le_of_ble_eq_true rfl, by decide, Nat.le_of_ble_eq_true rfl, Nat.le_of_ble_eq_true rfl, Nat.le_of_ble_eq_true rfl⟩ rfl (fun e => ?_)
          refine j_widen (k' := 16) (n' := 1024) (by decide) (by decide) ?_
          refine j_astore C dX0_put_42 (by decide) rfl ?_
          refine j_bipush C (v := (-13)) dX0_put_44 rfl ?_
          obtain ⟨rfl, rfl⟩ := sp2 h
          exact j_iret C dX0_put_46 (Nat.le_of_ble_eq_true rfl) (Nat.le_of_ble_eq_true rfl) ⟨rfl, rfl⟩
        replace h := im c17 h
        cases h
      replace h := im c15 h
      refine jx_U hκ C (mt_r_put23 hκ G r12 c15) ⟨q1501, q1503, q1507, q1508, q151, q1509, (Or.inl q1502), by decide, by decide⟩ (N := 2) (by decide +kernel) rfl g14 (by decide) rfl rfl dX0_put_20 (jfit.of (Nat.le_of_ble_eq_true rfl) (by decide) (Nat.le_of_ble_eq_true rfl) (Nat.le_of_ble_eq_true rfl) (Nat.le_of_ble_eq_true rfl)) rfl ?_
      refine jx_nmT h (fun T16 h => ?_)
      refine j_if_eq C dX0_put_23 (tgt := 30) (by decide) (fun c => ?_) (fun c => ?_)
      · replace h := ip c h
        refine j_iconst C (v := (-1)) dX0_put_30 rfl ?_
        obtain ⟨rfl, rfl⟩ := sp2 h
        exact j_iret C dX0_put_31 (Nat.le_of_ble_eq_true rfl) (Nat.le_of_ble_eq_true rfl) ⟨rfl, rfl⟩
      replace h := im c h
      refine j_iconst C (v := 1) dX0_put_26 rfl ?_
      refine j_goto C dX0_put_27 (tgt := 31) (by decide) ?_
      obtain ⟨rfl, rfl⟩ := sp2 h
      exact j_iret C dX0_put_31 (Nat.le_of_ble_eq_true rfl) (Nat.le_of_ble_eq_true rfl) ⟨rfl, rfl⟩
    replace h := im c18 h
    by_cases c27 : q8.1 = 24
    · replace h := ip c27 h
      refine jx_castY hκ C q1500 (getO_eq g9 c27) (by decide) rfl rfl (Or.inl q2258) dX0_put_15 ?_
      refine j_iload_n C dX0_put_18 rfl rfl ?_
      refine j_lload_n C dX0_put_19 rfl rfl ?_
      obtain ⟨b19, z20, r21, h⟩ := ob2 h
      obtain ⟨q22, g23, -, -⟩ := rowZ_some r21
      by_cases c24 : p2 < 0 ∨ z20.2.2.2.1 ≤ p2.toNatClampNeg
      · replace h := ip c24 h
        by_cases c26 : z20.2.2.2.1 < 2147483648
        · replace h := ip c26 h
          refine jx_UX hκ C ht (jcat_mk [(9, 31, 32, 135), (9, 31, 37, 133)] (9, 31, 42, 137) [] "java/lang/IndexOutOfBoundsException" rfl ⟨Or.inr ⟨by decide, "java/lang/NullPointerException", q465, by decide⟩, ⟨Or.inr ⟨by decide, "java/lang/ClassCastException", q381, by decide⟩, trivial⟩⟩ (by decide) (by decide) q490 q2253 rfl) (mt_r_putX24 hκ G r21 (fun f => f c24) c26) ⟨q1501, q1503, q1516, q1517, q152, q1518, (Or.inl q1502), by decide, by decide⟩ (N := 2) (by decide +kernel) rfl g23 (by decide) rfl rfl dX0_put_20 ⟨Nat.le_of_ble_eq_true rfl, by decide, Nat.le_of_ble_eq_true rfl, Nat.le_of_ble_eq_true rfl, Nat.le_of_ble_eq_true rfl⟩ rfl (fun e => ?_)
          refine j_widen (k' := 16) (n' := 1024) (by decide) (by decide) ?_
          refine j_astore C dX0_put_42 (by decide) rfl ?_
          refine j_bipush C (v := (-13)) dX0_put_44 rfl ?_
          obtain ⟨rfl, rfl⟩ := sp2 h
          exact j_iret C dX0_put_46 (Nat.le_of_ble_eq_true rfl) (Nat.le_of_ble_eq_true rfl) ⟨rfl, rfl⟩
        replace h := im c26 h
        cases h
      replace h := im c24 h
      refine jx_U hκ C (mt_r_put24 hκ G r21 c24) ⟨q1501, q1503, q1516, q1517, q152, q1518, (Or.inl q1502), by decide, by decide⟩ (N := 2) (by decide +kernel) rfl g23 (by decide) rfl rfl dX0_put_20 (jfit.of (Nat.le_of_ble_eq_true rfl) (by decide) (Nat.le_of_ble_eq_true rfl) (Nat.le_of_ble_eq_true rfl) (Nat.le_of_ble_eq_true rfl)) rfl ?_
      refine jx_nmT h (fun T25 h => ?_)
      refine j_if_eq C dX0_put_23 (tgt := 30) (by decide) (fun c => ?_) (fun c => ?_)
      · replace h := ip c h
        refine j_iconst C (v := (-1)) dX0_put_30 rfl ?_
        obtain ⟨rfl, rfl⟩ := sp2 h
        exact j_iret C dX0_put_31 (Nat.le_of_ble_eq_true rfl) (Nat.le_of_ble_eq_true rfl) ⟨rfl, rfl⟩
      replace h := im c h
      refine j_iconst C (v := 1) dX0_put_26 rfl ?_
      refine j_goto C dX0_put_27 (tgt := 31) (by decide) ?_
      obtain ⟨rfl, rfl⟩ := sp2 h
      exact j_iret C dX0_put_31 (Nat.le_of_ble_eq_true rfl) (Nat.le_of_ble_eq_true rfl) ⟨rfl, rfl⟩
    replace h := im c27 h
    by_cases c36 : q8.1 = 25
    · replace h := ip c36 h
      refine jx_castY hκ C q1500 (getO_eq g9 c36) (by decide) rfl rfl (Or.inl q2256) dX0_put_15 ?_
      refine j_iload_n C dX0_put_18 rfl rfl ?_
      refine j_lload_n C dX0_put_19 rfl rfl ?_
      obtain ⟨b28, z29, r30, h⟩ := ob2 h
      obtain ⟨q31, g32, -, -⟩ := rowZ_some r30
      by_cases c33 : p2 < 0 ∨ z29.2.2.2.1 ≤ p2.toNatClampNeg
      · replace h := ip c33 h
        by_cases c35 : z29.2.2.2.1 < 2147483648
        · replace h := ip c35 h
          refine jx_UX hκ C ht (jcat_mk [(9, 31, 32, 135), (9, 31, 37, 133)] (9, 31, 42, 137) [] "java/lang/IndexOutOfBoundsException" rfl ⟨Or.inr ⟨by decide, "java/lang/NullPointerException", q465, by decide⟩, ⟨Or.inr ⟨by decide, "java/lang/ClassCastException", q381, by decide⟩, trivial⟩⟩ (by decide) (by decide) q490 q2253 rfl) (mt_r_putX25 hκ G r30 (fun f => f c33) c35) ⟨q1501, q1503, q1510, q1511, q153, q1512, (Or.inl q1502), by decide, by decide⟩ (N := 2) (by decide +kernel) rfl g32 (by decide) rfl rfl dX0_put_20 ⟨Nat.le_of_ble_eq_true rfl, by decide, Nat.le_of_ble_eq_true rfl, Nat.le_of_ble_eq_true rfl, Nat.le_of_ble_eq_true rfl⟩ rfl (fun e => ?_)
          refine j_widen (k' := 16) (n' := 1024) (by decide) (by decide) ?_
          refine j_astore C dX0_put_42 (by decide) rfl ?_
          refine j_bipush C (v := (-13)) dX0_put_44 rfl ?_
          obtain ⟨rfl, rfl⟩ := sp2 h
          exact j_iret C dX0_put_46 (Nat.le_of_ble_eq_true rfl) (Nat.le_of_ble_eq_true rfl) ⟨rfl, rfl⟩
        replace h := im c35 h
        cases h
      replace h := im c33 h
      refine jx_U hκ C (mt_r_put25 hκ G r30 c33) ⟨q1501, q1503, q1510, q1511, q153, q1512, (Or.inl q1502), by decide, by decide⟩ (N := 2) (by decide +kernel) rfl g32 (by decide) rfl rfl dX0_put_20 (jfit.of (Nat.le_of_ble_eq_true rfl) (by decide) (Nat.le_of_ble_eq_true rfl) (Nat.le_of_ble_eq_true rfl) (Nat.le_of_ble_eq_true rfl)) rfl ?_
      refine jx_nmT h (fun T34 h => ?_)
      refine j_if_eq C dX0_put_23 (tgt := 30) (by decide) (fun c => ?_) (fun c => ?_)
      · replace h := ip c h
        refine j_iconst C (v := (-1)) dX0_put_30 rfl ?_
        obtain ⟨rfl, rfl⟩ := sp2 h
        exact j_iret C dX0_put_31 (Nat.le_of_ble_eq_true rfl) (Nat.le_of_ble_eq_true rfl) ⟨rfl, rfl⟩
      replace h := im c h
      refine j_iconst C (v := 1) dX0_put_26 rfl ?_
      refine j_goto C dX0_put_27 (tgt := 31) (by decide) ?_
      obtain ⟨rfl, rfl⟩ := sp2 h
      exact j_iret C dX0_put_31 (Nat.le_of_ble_eq_true rfl) (Nat.le_of_ble_eq_true rfl) ⟨rfl, rfl⟩
    replace h := im c36 h
    by_cases c45 : q8.1 = 26
    · replace h := ip c45 h
      refine jx_castY hκ C q1500 (getO_eq g9 c45) (by decide) rfl rfl (Or.inl q2257) dX0_put_15 ?_
      refine j_iload_n C dX0_put_18 rfl rfl ?_
      refine j_lload_n C dX0_put_19 rfl rfl ?_
      obtain ⟨b37, z38, r39, h⟩ := ob2 h
      obtain ⟨q40, g41, -, -⟩ := rowZ_some r39
      by_cases c42 : p2 < 0 ∨ z38.2.2.2.1 ≤ p2.toNatClampNeg
      · replace h := ip c42 h
        by_cases c44 : z38.2.2.2.1 < 2147483648
        · replace h := ip c44 h
          refine jx_UX hκ C ht (jcat_mk [(9, 31, 32, 135), (9, 31, 37, 133)] (9, 31, 42, 137) [] "java/lang/IndexOutOfBoundsException" rfl ⟨Or.inr ⟨by decide, "java/lang/NullPointerException", q465, by decide⟩, ⟨Or.inr ⟨by decide, "java/lang/ClassCastException", q381, by decide⟩, trivial⟩⟩ (by decide) (by decide) q490 q2253 rfl) (mt_r_putX26 hκ G r39 (fun f => f c42) c44) ⟨q1501, q1503, q1513, q1514, q154, q1515, (Or.inl q1502), by decide, by decide⟩ (N := 2) (by decide +kernel) rfl g41 (by decide) rfl rfl dX0_put_20 ⟨Nat.le_of_ble_eq_true rfl, by decide, Nat.le_of_ble_eq_true rfl, Nat.le_of_ble_eq_true rfl, Nat.le_of_ble_eq_true rfl⟩ rfl (fun e => ?_)
          refine j_widen (k' := 16) (n' := 1024) (by decide) (by decide) ?_
          refine j_astore C dX0_put_42 (by decide) rfl ?_
          refine j_bipush C (v := (-13)) dX0_put_44 rfl ?_
          obtain ⟨rfl, rfl⟩ := sp2 h
          exact j_iret C dX0_put_46 (Nat.le_of_ble_eq_true rfl) (Nat.le_of_ble_eq_true rfl) ⟨rfl, rfl⟩
        replace h := im c44 h
        cases h
      replace h := im c42 h
      refine jx_U hκ C (mt_r_put26 hκ G r39 c42) ⟨q1501, q1503, q1513, q1514, q154, q1515, (Or.inl q1502), by decide, by decide⟩ (N := 2) (by decide +kernel) rfl g41 (by decide) rfl rfl dX0_put_20 (jfit.of (Nat.le_of_ble_eq_true rfl) (by decide) (Nat.le_of_ble_eq_true rfl) (Nat.le_of_ble_eq_true rfl) (Nat.le_of_ble_eq_true rfl)) rfl ?_
      refine jx_nmT h (fun T43 h => ?_)
      refine j_if_eq C dX0_put_23 (tgt := 30) (by decide) (fun c => ?_) (fun c => ?_)
      · replace h := ip c h
        refine j_iconst C (v := (-1)) dX0_put_30 rfl ?_
        obtain ⟨rfl, rfl⟩ := sp2 h
        exact j_iret C dX0_put_31 (Nat.le_of_ble_eq_true rfl) (Nat.le_of_ble_eq_true rfl) ⟨rfl, rfl⟩
      replace h := im c h
      refine j_iconst C (v := 1) dX0_put_26 rfl ?_
      refine j_goto C dX0_put_27 (tgt := 31) (by decide) ?_
      obtain ⟨rfl, rfl⟩ := sp2 h
      exact j_iret C dX0_put_31 (Nat.le_of_ble_eq_true rfl) (Nat.le_of_ble_eq_true rfl) ⟨rfl, rfl⟩
    replace h := im c45 h
    by_cases c54 : q8.1 = 27
    · replace h := ip c54 h
      refine jx_castY hκ C q1500 (getO_eq g9 c54) (by decide) rfl rfl (Or.inl q2254) dX0_put_15 ?_
      refine j_iload_n C dX0_put_18 rfl rfl ?_
      refine j_lload_n C dX0_put_19 rfl rfl ?_
      obtain ⟨b46, z47, r48, h⟩ := ob2 h
      obtain ⟨q49, g50, -, -⟩ := rowZ_some r48
      by_cases c51 : p2 < 0 ∨ z47.2.2.2.1 ≤ p2.toNatClampNeg
      · replace h := ip c51 h
        by_cases c53 : z47.2.2.2.1 < 2147483648
        · replace h := ip c53 h
          refine jx_UX hκ C ht (jcat_mk [(9, 31, 32, 135), (9, 31, 37, 133)] (9, 31, 42, 137) [] "java/lang/IndexOutOfBoundsException" rfl ⟨Or.inr ⟨by decide, "java/lang/NullPointerException", q465, by decide⟩, ⟨Or.inr ⟨by decide, "java/lang/ClassCastException", q381, by decide⟩, trivial⟩⟩ (by decide) (by decide) q490 q2253 rfl) (mt_r_putX27 hκ G r48 (fun f => f c51) c53) ⟨q1501, q1503, q1504, q1505, q155, q1506, (Or.inl q1502), by decide, by decide⟩ (N := 2) (by decide +kernel) rfl g50 (by decide) rfl rfl dX0_put_20 ⟨Nat.le_of_ble_eq_true rfl, by decide, Nat.le_of_ble_eq_true rfl, Nat.le_of_ble_eq_true rfl, Nat.le_of_ble_eq_true rfl⟩ rfl (fun e => ?_)
          refine j_widen (k' := 16) (n' := 1024) (by decide) (by decide) ?_
          refine j_astore C dX0_put_42 (by decide) rfl ?_
          refine j_bipush C (v := (-13)) dX0_put_44 rfl ?_
          obtain ⟨rfl, rfl⟩ := sp2 h
          exact j_iret C dX0_put_46 (Nat.le_of_ble_eq_true rfl) (Nat.le_of_ble_eq_true rfl) ⟨rfl, rfl⟩
        replace h := im c53 h
        cases h
      replace h := im c51 h
      refine jx_U hκ C (mt_r_put27 hκ G r48 c51) ⟨q1501, q1503, q1504, q1505, q155, q1506, (Or.inl q1502), by decide, by decide⟩ (N := 2) (by decide +kernel) rfl g50 (by decide) rfl rfl dX0_put_20 (jfit.of (Nat.le_of_ble_eq_true rfl) (by decide) (Nat.le_of_ble_eq_true rfl) (Nat.le_of_ble_eq_true rfl) (Nat.le_of_ble_eq_true rfl)) rfl ?_
      refine jx_nmT h (fun T52 h => ?_)
      refine j_if_eq C dX0_put_23 (tgt := 30) (by decide) (fun c => ?_) (fun c => ?_)
      · replace h := ip c h
        refine j_iconst C (v := (-1)) dX0_put_30 rfl ?_
        obtain ⟨rfl, rfl⟩ := sp2 h
        exact j_iret C dX0_put_31 (Nat.le_of_ble_eq_true rfl) (Nat.le_of_ble_eq_true rfl) ⟨rfl, rfl⟩
      replace h := im c h
      refine j_iconst C (v := 1) dX0_put_26 rfl ?_
      refine j_goto C dX0_put_27 (tgt := 31) (by decide) ?_
      obtain ⟨rfl, rfl⟩ := sp2 h
      exact j_iret C dX0_put_31 (Nat.le_of_ble_eq_true rfl) (Nat.le_of_ble_eq_true rfl) ⟨rfl, rfl⟩
    replace h := im c54 h
    by_cases c55 : q8.1 ∈ [14, 15, 16, 17, 18, 19, 20, 21]
    · replace h := ip c55 h
      refine jx_castX hκ C ht q1500 g9 c55 jbad_Row dX0_put_15 (jcat_mk [(9, 31, 32, 135)] (9, 31, 37, 133) [(9, 31, 42, 137)] "java/lang/ClassCastException" rfl ⟨Or.inr ⟨by decide, "java/lang/NullPointerException", q465, by decide⟩, trivial⟩ (by decide) (by decide) q381 q443 rfl) (Nat.le_of_ble_eq_true rfl) (Nat.le_of_ble_eq_true rfl) (Nat.le_of_ble_eq_true rfl) (Nat.le_of_ble_eq_true rfl) (fun e => ?_)
      refine j_widen (k' := 16) (n' := 1024) (by decide) (by decide) ?_
      refine j_astore C dX0_put_37 (by decide) rfl ?_
      refine j_bipush C (v := (-12)) dX0_put_39 rfl ?_
      obtain ⟨rfl, rfl⟩ := sp2 h
      exact j_iret C dX0_put_41 (Nat.le_of_ble_eq_true rfl) (Nat.le_of_ble_eq_true rfl) ⟨rfl, rfl⟩
    replace h := im c55 h
    cases h
  replace h := ip c h
  refine j_iconst C (v := (-1)) dX0_put_7 rfl ?_
  obtain ⟨rfl, rfl⟩ := sp2 h
  exact j_iret C dX0_put_8 (Nat.le_of_ble_eq_true rfl) (Nat.le_of_ble_eq_true rfl) ⟨rfl, rfl⟩
/-! element -/
def x_element (T : XS) (p1 : Int32) (p2 : Int32) : Option Int64 :=
  (x_isShelf p1).bind fun v2 =>
  (if (b2i v2) = 0 then
  some (-9223372036854775808)
  else
  chk 6 p1 (
  onl (T.2.2.1 48 p1.toNatClampNeg) (
  some (-9223372036854775808)) fun a6 =>
  (T.2.2.2 a6).bind fun q8 =>
  (if q8.1 = 23 then
  b2 (rowZ T a6 23) fun b10 z11 =>
  (if p2 < 0 ∨ z11.2.2.2.1 ≤ p2.toNatClampNeg then
  (if z11.2.2.2.1 < 2147483648 then
  some (-9223372036854775808)
  else none)
  else
  some (rAt 23 z11 p2.toNatClampNeg))
  else if q8.1 = 24 then
  b2 (rowZ T a6 24) fun b18 z19 =>
  (if p2 < 0 ∨ z19.2.2.2.1 ≤ p2.toNatClampNeg then
  (if z19.2.2.2.1 < 2147483648 then
  some (-9223372036854775808)
  else none)
  else
  some (rAt 24 z19 p2.toNatClampNeg))
  else if q8.1 = 25 then
  b2 (rowZ T a6 25) fun b26 z27 =>
  (if p2 < 0 ∨ z27.2.2.2.1 ≤ p2.toNatClampNeg then
  (if z27.2.2.2.1 < 2147483648 then
  some (-9223372036854775808)
  else none)
  else
  some (rAt 25 z27 p2.toNatClampNeg))
  else if q8.1 = 26 then
  b2 (rowZ T a6 26) fun b34 z35 =>
  (if p2 < 0 ∨ z35.2.2.2.1 ≤ p2.toNatClampNeg then
  (if z35.2.2.2.1 < 2147483648 then
  some (-9223372036854775808)
  else none)
  else
  some (rAt 26 z35 p2.toNatClampNeg))
  else if q8.1 = 27 then
  b2 (rowZ T a6 27) fun b42 z43 =>
  (if p2 < 0 ∨ z43.2.2.2.1 ≤ p2.toNatClampNeg then
  (if z43.2.2.2.1 < 2147483648 then
  some (-9223372036854775808)
  else none)
  else
  some (rAt 27 z43 p2.toNatClampNeg))
  else if q8.1 ∈ [14, 15, 16, 17, 18, 19, 20, 21] then
  some (-9223372036854775808)
  else none)))
theorem mt_x_element {κ : jK} (hκ : jX κ) (G : Nat → Nat) {T : XS} {p1 : Int32} {p2 : Int32} {v : Int64} (h : x_element T p1 p2 = some v) : jM κ yX0_element (wsW_ yX0_element cX0_element 4 (some .long) [((11 : Nat), (24 : Nat), (25 : Nat), (135 : Nat)), ((11 : Nat), (24 : Nat), (30 : Nat), (133 : Nat)), ((11 : Nat), (24 : Nat), (35 : Nat), (137 : Nat))]) 230 16 1024 [.ref (G 0), .int p1, .int p2] (wX κ G T) (fun u w' => u = some (.long v) ∧ w' = wX κ G T) := by
  rw [x_element] at h
  refine jM.ofH (by decide) rfl (Nat.le_of_ble_eq_true rfl) fun Γ C ht => ?_
  show J κ Γ (230, 16, 1024, (fun u w' => u = some (.long v) ∧ w' = wX κ G T)) 4 (wX κ G T) 0 0 0 [some (.ref (G 0)), some (.int p1), some (.int p2), none] []
  refine j_iload_n C dX0_element_0 rfl rfl ?_
  obtain ⟨v2, e1, h⟩ := ob h
  refine j_Si hκ.1.1 C (mt_x_isShelf hκ e1) hG_x_isShelf hy_x_isShelf rfl dX0_element_1 (jfit.of (Nat.le_of_ble_eq_true rfl) (by decide) (Nat.le_of_ble_eq_true rfl) (Nat.le_of_ble_eq_true rfl) (Nat.le_of_ble_eq_true rfl)) rfl ?_
  refine j_if_ne C dX0_element_4 (tgt := 11) (by decide) (fun c => ?_) (fun c => ?_)
  · replace h := im c h
    refine j_aload_n C dX0_element_11 rfl rfl ?_
    refine jx_geta hκ C 48 (by decide) rfl rfl q237 dX0_element_12 ?_
    refine j_iload_n C dX0_element_15 rfl rfl ?_
    obtain ⟨b3, h⟩ := chk_some h
    refine jx_aald hκ C 48 rfl rfl b3 dX0_element_16 ?_
    rcases onl_some h with ⟨w7, h⟩ | ⟨a6, w7, h⟩
    · refine j_nul w7 ?_
      refine j_castN C dX0_element_17 ?_
      refine j_iload_n C dX0_element_20 rfl rfl ?_
      refine j_nullX hκ C ht (As := [.int p2]) q1524 (Or.inr q1526) (Or.inl q1525) ⟨by decide, by decide⟩ (by show _ = some 1; decide +kernel) dX0_element_21 (jcat_mk [] (11, 24, 25, 135) [(11, 24, 30, 133), (11, 24, 35, 137)] "java/lang/NullPointerException" rfl trivial (by decide) (by decide) q465 q487 rfl) rfl (Nat.le_of_ble_eq_true rfl) (Nat.le_of_ble_eq_true rfl) (Nat.le_of_ble_eq_true rfl) (Nat.le_of_ble_eq_true rfl) (fun e => ?_)
      refine j_widen (k' := 1) (n' := 64) (by decide) (by decide) ?_
      refine j_astore_n C dX0_element_25 rfl (by decide) rfl ?_
      refine j_ldc2 C (v := (-9223372036854775808)) dX0_element_26 q1523 ?_
      obtain rfl := sp1 h
      exact j_lret C dX0_element_29 (Nat.le_of_ble_eq_true rfl) (Nat.le_of_ble_eq_true rfl) ⟨rfl, rfl⟩
    refine j_nn w7 ?_
    obtain ⟨q8, g9, h⟩ := ob h
    by_cases c17 : q8.1 = 23
    · replace h := ip c17 h
      refine jx_castY hκ C q1500 (getO_eq g9 c17) (by decide) rfl rfl (Or.inl q2255) dX0_element_17 ?_
      refine j_iload_n C dX0_element_20 rfl rfl ?_
      obtain ⟨b10, z11, r12, h⟩ := ob2 h
      obtain ⟨q13, g14, -, -⟩ := rowZ_some r12
      by_cases c15 : p2 < 0 ∨ z11.2.2.2.1 ≤ p2.toNatClampNeg
      · replace h := ip c15 h
        by_cases c16 : z11.2.2.2.1 < 2147483648
        · replace h := ip c16 h
          refine jx_UX hκ C ht (jcat_mk [(11, 24, 25, 135), (11, 24, 30, 133)] (11, 24, 35, 137) [] "java/lang/IndexOutOfBoundsException" rfl ⟨Or.inr ⟨by decide, "java/lang/NullPointerException", q465, by decide⟩, ⟨Or.inr ⟨by decide, "java/lang/ClassCastException", q381, by decide⟩, trivial⟩⟩ (by decide) (by decide) q490 q2253 rfl) (mt_r_atX23 hκ G r12 (fun f => f c15) c16) ⟨q1524, q1526, q1530, q514, q151, q516, (Or.inl q1525), by decide, by decide⟩ (N := 1) (by decide +kernel) rfl g14 (by decide) rfl rfl dX0_element_21 ⟨Nat.le_of_ble_eq_true rfl, by decide, Nat.le_of_ble_eq_true rfl, Nat.le_of_ble_eq_true rfl, Nat.le_of_ble_eq_true rfl⟩ rfl (fun e => ?_)
          refine j_widen (k' := 16) (n' := 1024) (by decide) (by decide) ?_
          refine j_astore_n C dX0_element_35 rfl (by decide) rfl ?_
          refine j_ldc2 C (v := (-9223372036854775808)) dX0_element_36 q1523 ?_
          obtain rfl := sp1 h
          exact j_lret C dX0_element_39 (Nat.le_of_ble_eq_true rfl) (Nat.le_of_ble_eq_true rfl) ⟨rfl, rfl⟩
        replace h := im c16 h
        cases h
      replace h := im c15 h
      refine jx_U hκ C (mt_r_at23 hκ G r12 c15) ⟨q1524, q1526, q1530, q514, q151, q516, (Or.inl q1525), by decide, by decide⟩ (N := 1) (by decide +kernel) rfl g14 (by decide) rfl rfl dX0_element_21 (jfit.of (Nat.le_of_ble_eq_true rfl) (by decide) (Nat.le_of_ble_eq_true rfl) (Nat.le_of_ble_eq_true rfl) (Nat.le_of_ble_eq_true rfl)) rfl ?_
      obtain rfl := sp1 h
      exact j_lret C dX0_element_24 (Nat.le_of_ble_eq_true rfl) (Nat.le_of_ble_eq_true rfl) ⟨rfl, rfl⟩
    replace h := im c17 h
    by_cases c25 : q8.1 = 24
    · replace h := ip c25 h
      refine jx_castY hκ C q1500 (getO_eq g9 c25) (by decide) rfl rfl (Or.inl q2258) dX0_element_17 ?_
      refine j_iload_n C dX0_element_20 rfl rfl ?_
      obtain ⟨b18, z19, r20, h⟩ := ob2 h
      obtain ⟨q21, g22, -, -⟩ := rowZ_some r20
      by_cases c23 : p2 < 0 ∨ z19.2.2.2.1 ≤ p2.toNatClampNeg
      · replace h := ip c23 h
        by_cases c24 : z19.2.2.2.1 < 2147483648
        · replace h := ip c24 h
          refine jx_UX hκ C ht (jcat_mk [(11, 24, 25, 135), (11, 24, 30, 133)] (11, 24, 35, 137) [] "java/lang/IndexOutOfBoundsException" rfl ⟨Or.inr ⟨by decide, "java/lang/NullPointerException", q465, by decide⟩, ⟨Or.inr ⟨by decide, "java/lang/ClassCastException", q381, by decide⟩, trivial⟩⟩ (by decide) (by decide) q490 q2253 rfl) (mt_r_atX24 hκ G r20 (fun f => f c23) c24) ⟨q1524, q1526, q1537, q1076, q152, q1078, (Or.inl q1525), by decide, by decide⟩ (N := 1) (by decide +kernel) rfl g22 (by decide) rfl rfl dX0_element_21 ⟨Nat.le_of_ble_eq_true rfl, by decide, Nat.le_of_ble_eq_true rfl, Nat.le_of_ble_eq_true rfl, Nat.le_of_ble_eq_true rfl⟩ rfl (fun e => ?_)
          refine j_widen (k' := 16) (n' := 1024) (by decide) (by decide) ?_
          refine j_astore_n C dX0_element_35 rfl (by decide) rfl ?_
          refine j_ldc2 C (v := (-9223372036854775808)) dX0_element_36 q1523 ?_
          obtain rfl := sp1 h
          exact j_lret C dX0_element_39 (Nat.le_of_ble_eq_true rfl) (Nat.le_of_ble_eq_true rfl) ⟨rfl, rfl⟩
        replace h := im c24 h
        cases h
      replace h := im c23 h
      refine jx_U hκ C (mt_r_at24 hκ G r20 c23) ⟨q1524, q1526, q1537, q1076, q152, q1078, (Or.inl q1525), by decide, by decide⟩ (N := 1) (by decide +kernel) rfl g22 (by decide) rfl rfl dX0_element_21 (jfit.of (Nat.le_of_ble_eq_true rfl) (by decide) (Nat.le_of_ble_eq_true rfl) (Nat.le_of_ble_eq_true rfl) (Nat.le_of_ble_eq_true rfl)) rfl ?_
      obtain rfl := sp1 h
      exact j_lret C dX0_element_24 (Nat.le_of_ble_eq_true rfl) (Nat.le_of_ble_eq_true rfl) ⟨rfl, rfl⟩
    replace h := im c25 h
    by_cases c33 : q8.1 = 25
    · replace h := ip c33 h
      refine jx_castY hκ C q1500 (getO_eq g9 c33) (by decide) rfl rfl (Or.inl q2256) dX0_element_17 ?_
      refine j_iload_n C dX0_element_20 rfl rfl ?_
      obtain ⟨b26, z27, r28, h⟩ := ob2 h
      obtain ⟨q29, g30, -, -⟩ := rowZ_some r28
      by_cases c31 : p2 < 0 ∨ z27.2.2.2.1 ≤ p2.toNatClampNeg
      · replace h := ip c31 h
        by_cases c32 : z27.2.2.2.1 < 2147483648
        · replace h := ip c32 h
          refine jx_UX hκ C ht (jcat_mk [(11, 24, 25, 135), (11, 24, 30, 133)] (11, 24, 35, 137) [] "java/lang/IndexOutOfBoundsException" rfl ⟨Or.inr ⟨by decide, "java/lang/NullPointerException", q465, by decide⟩, ⟨Or.inr ⟨by decide, "java/lang/ClassCastException", q381, by decide⟩, trivial⟩⟩ (by decide) (by decide) q490 q2253 rfl) (mt_r_atX25 hκ G r28 (fun f => f c31) c32) ⟨q1524, q1526, q1531, q1532, q153, q1533, (Or.inl q1525), by decide, by decide⟩ (N := 1) (by decide +kernel) rfl g30 (by decide) rfl rfl dX0_element_21 ⟨Nat.le_of_ble_eq_true rfl, by decide, Nat.le_of_ble_eq_true rfl, Nat.le_of_ble_eq_true rfl, Nat.le_of_ble_eq_true rfl⟩ rfl (fun e => ?_)
          refine j_widen (k' := 16) (n' := 1024) (by decide) (by decide) ?_
          refine j_astore_n C dX0_element_35 rfl (by decide) rfl ?_
          refine j_ldc2 C (v := (-9223372036854775808)) dX0_element_36 q1523 ?_
          obtain rfl := sp1 h
          exact j_lret C dX0_element_39 (Nat.le_of_ble_eq_true rfl) (Nat.le_of_ble_eq_true rfl) ⟨rfl, rfl⟩
        replace h := im c32 h
        cases h
      replace h := im c31 h
      refine jx_U hκ C (mt_r_at25 hκ G r28 c31) ⟨q1524, q1526, q1531, q1532, q153, q1533, (Or.inl q1525), by decide, by decide⟩ (N := 1) (by decide +kernel) rfl g30 (by decide) rfl rfl dX0_element_21 (jfit.of (Nat.le_of_ble_eq_true rfl) (by decide) (Nat.le_of_ble_eq_true rfl) (Nat.le_of_ble_eq_true rfl) (Nat.le_of_ble_eq_true rfl)) rfl ?_
      obtain rfl := sp1 h
      exact j_lret C dX0_element_24 (Nat.le_of_ble_eq_true rfl) (Nat.le_of_ble_eq_true rfl) ⟨rfl, rfl⟩
    replace h := im c33 h
    by_cases c41 : q8.1 = 26
    · replace h := ip c41 h
      refine jx_castY hκ C q1500 (getO_eq g9 c41) (by decide) rfl rfl (Or.inl q2257) dX0_element_17 ?_
      refine j_iload_n C dX0_element_20 rfl rfl ?_
      obtain ⟨b34, z35, r36, h⟩ := ob2 h
      obtain ⟨q37, g38, -, -⟩ := rowZ_some r36
      by_cases c39 : p2 < 0 ∨ z35.2.2.2.1 ≤ p2.toNatClampNeg
      · replace h := ip c39 h
        by_cases c40 : z35.2.2.2.1 < 2147483648
        · replace h := ip c40 h
          refine jx_UX hκ C ht (jcat_mk [(11, 24, 25, 135), (11, 24, 30, 133)] (11, 24, 35, 137) [] "java/lang/IndexOutOfBoundsException" rfl ⟨Or.inr ⟨by decide, "java/lang/NullPointerException", q465, by decide⟩, ⟨Or.inr ⟨by decide, "java/lang/ClassCastException", q381, by decide⟩, trivial⟩⟩ (by decide) (by decide) q490 q2253 rfl) (mt_r_atX26 hκ G r36 (fun f => f c39) c40) ⟨q1524, q1526, q1534, q1535, q154, q1536, (Or.inl q1525), by decide, by decide⟩ (N := 1) (by decide +kernel) rfl g38 (by decide) rfl rfl dX0_element_21 ⟨Nat.le_of_ble_eq_true rfl, by decide, Nat.le_of_ble_eq_true rfl, Nat.le_of_ble_eq_true rfl, Nat.le_of_ble_eq_true rfl⟩ rfl (fun e => ?_)
          refine j_widen (k' := 16) (n' := 1024) (by decide) (by decide) ?_
          refine j_astore_n C dX0_element_35 rfl (by decide) rfl ?_
          refine j_ldc2 C (v := (-9223372036854775808)) dX0_element_36 q1523 ?_
          obtain rfl := sp1 h
          exact j_lret C dX0_element_39 (Nat.le_of_ble_eq_true rfl) (Nat.le_of_ble_eq_true rfl) ⟨rfl, rfl⟩
        replace h := im c40 h
        cases h
      replace h := im c39 h
      refine jx_U hκ C (mt_r_at26 hκ G r36 c39) ⟨q1524, q1526, q1534, q1535, q154, q1536, (Or.inl q1525), by decide, by decide⟩ (N := 1) (by decide +kernel) rfl g38 (by decide) rfl rfl dX0_element_21 (jfit.of (Nat.le_of_ble_eq_true rfl) (by decide) (Nat.le_of_ble_eq_true rfl) (Nat.le_of_ble_eq_true rfl) (Nat.le_of_ble_eq_true rfl)) rfl ?_
      obtain rfl := sp1 h
      exact j_lret C dX0_element_24 (Nat.le_of_ble_eq_true rfl) (Nat.le_of_ble_eq_true rfl) ⟨rfl, rfl⟩
    replace h := im c41 h
    by_cases c49 : q8.1 = 27
    · replace h := ip c49 h
      refine jx_castY hκ C q1500 (getO_eq g9 c49) (by decide) rfl rfl (Or.inl q2254) dX0_element_17 ?_
      refine j_iload_n C dX0_element_20 rfl rfl ?_
      obtain ⟨b42, z43, r44, h⟩ := ob2 h
      obtain ⟨q45, g46, -, -⟩ := rowZ_some r44
      by_cases c47 : p2 < 0 ∨ z43.2.2.2.1 ≤ p2.toNatClampNeg
      · replace h := ip c47 h
        by_cases c48 : z43.2.2.2.1 < 2147483648
        · replace h := ip c48 h
          refine jx_UX hκ C ht (jcat_mk [(11, 24, 25, 135), (11, 24, 30, 133)] (11, 24, 35, 137) [] "java/lang/IndexOutOfBoundsException" rfl ⟨Or.inr ⟨by decide, "java/lang/NullPointerException", q465, by decide⟩, ⟨Or.inr ⟨by decide, "java/lang/ClassCastException", q381, by decide⟩, trivial⟩⟩ (by decide) (by decide) q490 q2253 rfl) (mt_r_atX27 hκ G r44 (fun f => f c47) c48) ⟨q1524, q1526, q1527, q1528, q155, q1529, (Or.inl q1525), by decide, by decide⟩ (N := 1) (by decide +kernel) rfl g46 (by decide) rfl rfl dX0_element_21 ⟨Nat.le_of_ble_eq_true rfl, by decide, Nat.le_of_ble_eq_true rfl, Nat.le_of_ble_eq_true rfl, Nat.le_of_ble_eq_true rfl⟩ rfl (fun e => ?_)
          refine j_widen (k' := 16) (n' := 1024) (by decide) (by decide) ?_
          refine j_astore_n C dX0_element_35 rfl (by decide) rfl ?_
          refine j_ldc2 C (v := (-9223372036854775808)) dX0_element_36 q1523 ?_
          obtain rfl := sp1 h
          exact j_lret C dX0_element_39 (Nat.le_of_ble_eq_true rfl) (Nat.le_of_ble_eq_true rfl) ⟨rfl, rfl⟩
        replace h := im c48 h
        cases h
      replace h := im c47 h
      refine jx_U hκ C (mt_r_at27 hκ G r44 c47) ⟨q1524, q1526, q1527, q1528, q155, q1529, (Or.inl q1525), by decide, by decide⟩ (N := 1) (by decide +kernel) rfl g46 (by decide) rfl rfl dX0_element_21 (jfit.of (Nat.le_of_ble_eq_true rfl) (by decide) (Nat.le_of_ble_eq_true rfl) (Nat.le_of_ble_eq_true rfl) (Nat.le_of_ble_eq_true rfl)) rfl ?_
      obtain rfl := sp1 h
      exact j_lret C dX0_element_24 (Nat.le_of_ble_eq_true rfl) (Nat.le_of_ble_eq_true rfl) ⟨rfl, rfl⟩
    replace h := im c49 h
    by_cases c50 : q8.1 ∈ [14, 15, 16, 17, 18, 19, 20, 21]
    · replace h := ip c50 h
      refine jx_castX hκ C ht q1500 g9 c50 jbad_Row dX0_element_17 (jcat_mk [(11, 24, 25, 135)] (11, 24, 30, 133) [(11, 24, 35, 137)] "java/lang/ClassCastException" rfl ⟨Or.inr ⟨by decide, "java/lang/NullPointerException", q465, by decide⟩, trivial⟩ (by decide) (by decide) q381 q443 rfl) (Nat.le_of_ble_eq_true rfl) (Nat.le_of_ble_eq_true rfl) (Nat.le_of_ble_eq_true rfl) (Nat.le_of_ble_eq_true rfl) (fun e => ?_)
      refine j_widen (k' := 16) (n' := 1024) (by decide) (by decide) ?_
      refine j_astore_n C dX0_element_30 rfl (by decide) rfl ?_
      refine j_ldc2 C (v := (-9223372036854775808)) dX0_element_31 q1523 ?_
      obtain rfl := sp1 h
      exact j_lret C dX0_element_34 (Nat.le_of_ble_eq_true rfl) (Nat.le_of_ble_eq_true rfl) ⟨rfl, rfl⟩
    replace h := im c50 h
    cases h
  replace h := ip c h
  refine j_ldc2 C (v := (-9223372036854775808)) dX0_element_7 q1523 ?_
  obtain rfl := sp1 h
  exact j_lret C dX0_element_10 (Nat.le_of_ble_eq_true rfl) (Nat.le_of_ble_eq_true rfl) ⟨rfl, rfl⟩
/-! count -/
def x_count (T : XS) (p1 : Int32) : Option Int32 :=
  (if p1 = 0 then
  some (T.1 1)
  else if p1 = 1 then
  some (T.1 10)
  else if p1 = 2 then
  some (T.1 7)
  else if p1 = 3 then
  some (T.1 47)
  else if p1 = 4 then
  some (T.1 44)
  else 
  some (-1))
theorem mt_x_count {κ : jK} (hκ : jX κ) (G : Nat → Nat) {T : XS} {p1 : Int32} {v : Int32} (h : x_count T p1 = some v) : jM κ yX0_count (ws_ yX0_count cX0_count 2 (some .int)) 0 0 0 [.ref (G 0), .int p1] (wX κ G T) (fun u w' => u = some (.int v) ∧ w' = wX κ G T) := by
  rw [x_count] at h
  refine jM.of (by decide) rfl (Nat.le_of_ble_eq_true rfl) fun Γ C _ => ?_
  show J κ Γ (0, 0, 0, (fun u w' => u = some (.int v) ∧ w' = wX κ G T)) 2 (wX κ G T) 0 0 0 [some (.ref (G 0)), some (.int p1)] []
  refine j_iload_n C dX0_count_0 rfl rfl ?_
  by_cases c1_0 : p1 = 0
  · replace h := ip c1_0 h
    refine j_tabEq C dX0_count_1 c1_0 (a := 0) rfl (by decide) (by decide) rfl (tgt := 36) (by decide) ?_
    refine j_aload_n C dX0_count_36 rfl rfl ?_
    refine jx_geti hκ C 1 (by decide) rfl q188 dX0_count_37 ?_
    obtain rfl := sp1 h
    exact j_iret C dX0_count_40 (Nat.le_of_ble_eq_true rfl) (Nat.le_of_ble_eq_true rfl) ⟨rfl, rfl⟩
  replace h := im c1_0 h
  by_cases c1_1 : p1 = 1
  · replace h := ip c1_1 h
    refine j_tabEq C dX0_count_1 c1_1 (a := 1) rfl (by decide) (by decide) rfl (tgt := 41) (by decide) ?_
    refine j_aload_n C dX0_count_41 rfl rfl ?_
    refine jx_geti hκ C 10 (by decide) rfl q199 dX0_count_42 ?_
    obtain rfl := sp1 h
    exact j_iret C dX0_count_45 (Nat.le_of_ble_eq_true rfl) (Nat.le_of_ble_eq_true rfl) ⟨rfl, rfl⟩
  replace h := im c1_1 h
  by_cases c1_2 : p1 = 2
  · replace h := ip c1_2 h
    refine j_tabEq C dX0_count_1 c1_2 (a := 2) rfl (by decide) (by decide) rfl (tgt := 46) (by decide) ?_
    refine j_aload_n C dX0_count_46 rfl rfl ?_
    refine jx_geti hκ C 7 (by decide) rfl q194 dX0_count_47 ?_
    obtain rfl := sp1 h
    exact j_iret C dX0_count_50 (Nat.le_of_ble_eq_true rfl) (Nat.le_of_ble_eq_true rfl) ⟨rfl, rfl⟩
  replace h := im c1_2 h
  by_cases c1_3 : p1 = 3
  · replace h := ip c1_3 h
    refine j_tabEq C dX0_count_1 c1_3 (a := 3) rfl (by decide) (by decide) rfl (tgt := 51) (by decide) ?_
    refine j_aload_n C dX0_count_51 rfl rfl ?_
    refine jx_geti hκ C 47 (by decide) rfl q236 dX0_count_52 ?_
    obtain rfl := sp1 h
    exact j_iret C dX0_count_55 (Nat.le_of_ble_eq_true rfl) (Nat.le_of_ble_eq_true rfl) ⟨rfl, rfl⟩
  replace h := im c1_3 h
  by_cases c1_4 : p1 = 4
  · replace h := ip c1_4 h
    refine j_tabEq C dX0_count_1 c1_4 (a := 4) rfl (by decide) (by decide) rfl (tgt := 56) (by decide) ?_
    refine j_aload_n C dX0_count_56 rfl rfl ?_
    refine jx_geti hκ C 44 (by decide) rfl q233 dX0_count_57 ?_
    obtain rfl := sp1 h
    exact j_iret C dX0_count_60 (Nat.le_of_ble_eq_true rfl) (Nat.le_of_ble_eq_true rfl) ⟨rfl, rfl⟩
  replace h := im c1_4 h
  refine j_tabDef C [0, 1, 2, 3, 4] dX0_count_1 ⟨tab_ne c1_0 rfl, tab_ne c1_1 rfl, tab_ne c1_2 rfl, tab_ne c1_3 rfl, tab_ne c1_4 rfl, trivial⟩ rfl rfl (tgt := 61) (by decide) ?_
  refine j_iconst C (v := (-1)) dX0_count_61 rfl ?_
  obtain rfl := sp1 h
  exact j_iret C dX0_count_62 (Nat.le_of_ble_eq_true rfl) (Nat.le_of_ble_eq_true rfl) ⟨rfl, rfl⟩
