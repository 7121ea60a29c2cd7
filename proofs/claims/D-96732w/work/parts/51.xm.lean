set_option maxRecDepth 100000
/-! lost -/
def x_lost_b78 (N : Nat) (l3 : Int32) (l4 : Int32) : Nat → XS → Int32 → Int32 → Option (Int32 × XS)
  | 0, _, _, _ => none
  | n + 1, T, l6, l7 =>
    (if (T.1 1) ≤ l7 then
    some (l6, T)
    else
    b2 (x_lostAt N T l7 l3 l4) fun v2 T3 =>
    nm (l6 + v2) fun x4 =>
    nm (l7 + 1) fun x5 =>
    x_lost_b78 N l3 l4 n T3 x4 x5)
theorem wx_lost_b78 {κ : jK} (hκ : jX κ) (N : Nat) {Γ : jG} (C : jC κ Γ cX0_lost 8 RX0 (some .int)) {G : Nat → Nat} (l3 : Int32) (l4 : Int32) {v : Int32} {T' : XS} : ∀ (n : Nat) (T : XS) (l6 : Int32) (l7 : Int32), x_lost_b78 N l3 l4 n T l6 l7 = some (v, T') → J κ Γ (264, 16, 1024, (fun u w' => u = some (.int v) ∧ w' = wX κ G T')) 8 (wX κ G T) 16 1024 78 [some (.ref (G 0)), none, none, some (.int l3), some (.int l4), none, some (.int l6), some (.int l7)] [] := by
  intro n
  induction n with
  | zero => intro _ _ _ h; cases h
  | succ n ih =>
    intro T l6 l7 h
    rw [x_lost_b78] at h
    refine j_iload C dX0_lost_78 rfl ?_
    refine j_aload_n C dX0_lost_80 rfl rfl ?_
    refine jx_geti hκ C 1 (by decide) rfl q188 dX0_lost_81 ?_
    refine j_icmp_ge C dX0_lost_84 (tgt := 107) (by decide) (fun c => ?_) (fun c => ?_)
    · replace h := ip c h
      refine j_iload C dX0_lost_107 rfl ?_
      obtain ⟨rfl, rfl⟩ := sp2 h
      exact j_iret C dX0_lost_109 (Nat.le_of_ble_eq_true rfl) (Nat.le_of_ble_eq_true rfl) ⟨rfl, rfl⟩
    replace h := im c h
    refine j_iload C dX0_lost_87 rfl ?_
    refine j_aload_n C dX0_lost_89 rfl rfl ?_
    refine j_iload C dX0_lost_90 rfl ?_
    refine j_iload_n C dX0_lost_92 rfl rfl ?_
    refine j_iload C dX0_lost_93 rfl ?_
    obtain ⟨v2, T3, e1, h⟩ := ob2 h
    refine jx_Vi hκ C (mt_x_lostAt hκ N G e1) hG_x_lostAt hy_x_lostAt rfl rfl dX0_lost_95 (jfit.of (Nat.le_of_ble_eq_true rfl) (by decide) (Nat.le_of_ble_eq_true rfl) (Nat.le_of_ble_eq_true rfl) (Nat.le_of_ble_eq_true rfl)) rfl ?_
    refine j_iadd C dX0_lost_98 ?_
    refine j_nmI h (fun x4 h => ?_)
    refine j_istore C dX0_lost_99 (by decide) rfl ?_
    refine j_iincN C h dX0_lost_101 rfl rfl (by decide) rfl (fun x5 h => ?_)
    refine j_goto C dX0_lost_104 (tgt := 78) (by decide) ?_
    exact j_sub (ih _ _ _ h) ⟨rfl, ⟨rfl, ⟨rfl, ⟨rfl, ⟨rfl, trivial⟩⟩⟩⟩⟩
def x_lost (N : Nat) (T : XS) (p1 : Int32) (p2 : Int32) (p3 : Int32) (p4 : Int32) : Option (Int32 × XS) :=
  (x_isShelf p1).bind fun v2 =>
  (if (b2i v2) = 0 then
  some ((-1), T)
  else
  (x_in p2 (-1) ((T.1 1) - 1)).bind fun v4 =>
  (if (b2i v4) = 0 then
  some ((-1), T)
  else
  (x_isMinute p3).bind fun v6 =>
  (if (b2i v6) = 0 then
  some ((-1), T)
  else
  (x_isMinute p4).bind fun v8 =>
  (if (b2i v8) = 0 then
  some ((-1), T)
  else
  (if p3 ≤ p4 then
  b2 (x_layForth N T p1) fun v10 T11 =>
  (if 0 ≤ v10 then
  (if p2 < 0 then
  x_lost_b78 N p3 p4 N T11 0 0
  else
  b2 (x_lostAt N T11 p2 p3 p4) fun v13 T14 =>
  some (v13, T14))
  else
  some (v10, T11))
  else
  some ((-1), T))))))
theorem mt_x_lost {κ : jK} (hκ : jX κ) (N : Nat) (G : Nat → Nat) {T : XS} {p1 : Int32} {p2 : Int32} {p3 : Int32} {p4 : Int32} {v : Int32} {T' : XS} (h : x_lost N T p1 p2 p3 p4 = some (v, T')) : jM κ yX0_lost (ws_ yX0_lost cX0_lost 8 (some .int)) 264 16 1024 [.ref (G 0), .int p1, .int p2, .int p3, .int p4] (wX κ G T) (fun u w' => u = some (.int v) ∧ w' = wX κ G T') := by
  rw [x_lost] at h
  refine jM.of (by decide) rfl (Nat.le_of_ble_eq_true rfl) fun Γ C _ => ?_
  show J κ Γ (264, 16, 1024, (fun u w' => u = some (.int v) ∧ w' = wX κ G T')) 8 (wX κ G T) 0 0 0 [some (.ref (G 0)), some (.int p1), some (.int p2), some (.int p3), some (.int p4), none, none, none] []
  refine j_iload_n C dX0_lost_0 rfl rfl ?_
  obtain ⟨v2, e1, h⟩ := ob h
  refine j_Si hκ.1.1 C (mt_x_isShelf hκ e1) hG_x_isShelf hy_x_isShelf rfl dX0_lost_1 (jfit.of (Nat.le_of_ble_eq_true rfl) (by decide) (Nat.le_of_ble_eq_true rfl) (Nat.le_of_ble_eq_true rfl) (Nat.le_of_ble_eq_true rfl)) rfl ?_
  refine j_if_eq C dX0_lost_4 (tgt := 42) (by decide) (fun c => ?_) (fun c => ?_)
  · replace h := ip c h
    refine j_iconst C (v := (-1)) dX0_lost_42 rfl ?_
    obtain ⟨rfl, rfl⟩ := sp2 h
    exact j_iret C dX0_lost_43 (Nat.le_of_ble_eq_true rfl) (Nat.le_of_ble_eq_true rfl) ⟨rfl, rfl⟩
  replace h := im c h
  refine j_iload_n C dX0_lost_7 rfl rfl ?_
  refine j_iconst C (v := (-1)) dX0_lost_8 rfl ?_
  refine j_aload_n C dX0_lost_9 rfl rfl ?_
  refine jx_geti hκ C 1 (by decide) rfl q188 dX0_lost_10 ?_
  refine j_iconst C (v := 1) dX0_lost_13 rfl ?_
  refine j_isub C dX0_lost_14 ?_
  obtain ⟨v4, e3, h⟩ := ob h
  refine j_Si hκ.1.1 C (mt_x_in hκ e3) hG_x_in hy_x_in rfl dX0_lost_15 (jfit.of (Nat.le_of_ble_eq_true rfl) (by decide) (Nat.le_of_ble_eq_true rfl) (Nat.le_of_ble_eq_true rfl) (Nat.le_of_ble_eq_true rfl)) rfl ?_
  refine j_if_eq C dX0_lost_18 (tgt := 42) (by decide) (fun c => ?_) (fun c => ?_)
  · replace h := ip c h
    refine j_iconst C (v := (-1)) dX0_lost_42 rfl ?_
    obtain ⟨rfl, rfl⟩ := sp2 h
    exact j_iret C dX0_lost_43 (Nat.le_of_ble_eq_true rfl) (Nat.le_of_ble_eq_true rfl) ⟨rfl, rfl⟩
  replace h := im c h
  refine j_iload_n C dX0_lost_21 rfl rfl ?_
  obtain ⟨v6, e5, h⟩ := ob h
  refine j_Si hκ.1.1 C (mt_x_isMinute hκ e5) hG_x_isMinute hy_x_isMinute rfl dX0_lost_22 (jfit.of (Nat.le_of_ble_eq_true rfl) (by decide) (Nat.le_of_ble_eq_true rfl) (Nat.le_of_ble_eq_true rfl) (Nat.le_of_ble_eq_true rfl)) rfl ?_
  refine j_if_eq C dX0_lost_25 (tgt := 42) (by decide) (fun c => ?_) (fun c => ?_)
  · replace h := ip c h
    refine j_iconst C (v := (-1)) dX0_lost_42 rfl ?_
    obtain ⟨rfl, rfl⟩ := sp2 h
    exact j_iret C dX0_lost_43 (Nat.le_of_ble_eq_true rfl) (Nat.le_of_ble_eq_true rfl) ⟨rfl, rfl⟩
  replace h := im c h
  refine j_iload C dX0_lost_28 rfl ?_
  obtain ⟨v8, e7, h⟩ := ob h
  refine j_Si hκ.1.1 C (mt_x_isMinute hκ e7) hG_x_isMinute hy_x_isMinute rfl dX0_lost_30 (jfit.of (Nat.le_of_ble_eq_true rfl) (by decide) (Nat.le_of_ble_eq_true rfl) (Nat.le_of_ble_eq_true rfl) (Nat.le_of_ble_eq_true rfl)) rfl ?_
  refine j_if_eq C dX0_lost_33 (tgt := 42) (by decide) (fun c => ?_) (fun c => ?_)
  · replace h := ip c h
    refine j_iconst C (v := (-1)) dX0_lost_42 rfl ?_
    obtain ⟨rfl, rfl⟩ := sp2 h
    exact j_iret C dX0_lost_43 (Nat.le_of_ble_eq_true rfl) (Nat.le_of_ble_eq_true rfl) ⟨rfl, rfl⟩
  replace h := im c h
  refine j_iload_n C dX0_lost_36 rfl rfl ?_
  refine j_iload C dX0_lost_37 rfl ?_
  refine j_icmp_le C dX0_lost_39 (tgt := 44) (by decide) (fun c => ?_) (fun c => ?_)
  · replace h := ip c h
    refine j_aload_n C dX0_lost_44 rfl rfl ?_
    refine j_iload_n C dX0_lost_45 rfl rfl ?_
    obtain ⟨v10, T11, e9, h⟩ := ob2 h
    refine jx_Wi hκ C (mt_x_layForth hκ N G e9) hG_x_layForth hy_x_layForth rfl rfl dX0_lost_46 ⟨(Nat.le_of_ble_eq_true rfl), by decide, Nat.le_of_ble_eq_true rfl, Nat.le_of_ble_eq_true rfl, Nat.le_of_ble_eq_true rfl⟩ rfl ?_
    refine j_istore C dX0_lost_49 (by decide) rfl ?_
    refine j_iload C dX0_lost_51 rfl ?_
    refine j_if_ge C dX0_lost_53 (tgt := 59) (by decide) (fun c => ?_) (fun c => ?_)
    · replace h := ip c h
      refine j_iload_n C dX0_lost_59 rfl rfl ?_
      refine j_if_lt C dX0_lost_60 (tgt := 72) (by decide) (fun c => ?_) (fun c => ?_)
      · replace h := ip c h
        refine j_iconst C (v := 0) dX0_lost_72 rfl ?_
        refine j_istore C dX0_lost_73 (by decide) rfl ?_
        refine j_iconst C (v := 0) dX0_lost_75 rfl ?_
        refine j_istore C dX0_lost_76 (by decide) rfl ?_
        exact j_sub (wx_lost_b78 hκ N C _ _ N _ _ _ h) ⟨rfl, ⟨rfl, ⟨rfl, ⟨rfl, ⟨rfl, trivial⟩⟩⟩⟩⟩
      replace h := im c h
      refine j_aload_n C dX0_lost_63 rfl rfl ?_
      refine j_iload_n C dX0_lost_64 rfl rfl ?_
      refine j_iload_n C dX0_lost_65 rfl rfl ?_
      refine j_iload C dX0_lost_66 rfl ?_
      obtain ⟨v13, T14, e12, h⟩ := ob2 h
      refine jx_Vi hκ C (mt_x_lostAt hκ N G e12) hG_x_lostAt hy_x_lostAt rfl rfl dX0_lost_68 (jfit.of (Nat.le_of_ble_eq_true rfl) (by decide) (Nat.le_of_ble_eq_true rfl) (Nat.le_of_ble_eq_true rfl) (Nat.le_of_ble_eq_true rfl)) rfl ?_
      obtain ⟨rfl, rfl⟩ := sp2 h
      exact j_iret C dX0_lost_71 (Nat.le_of_ble_eq_true rfl) (Nat.le_of_ble_eq_true rfl) ⟨rfl, rfl⟩
    replace h := im c h
    refine j_iload C dX0_lost_56 rfl ?_
    obtain ⟨rfl, rfl⟩ := sp2 h
    exact j_iret C dX0_lost_58 (Nat.le_of_ble_eq_true rfl) (Nat.le_of_ble_eq_true rfl) ⟨rfl, rfl⟩
  replace h := im c h
  refine j_iconst C (v := (-1)) dX0_lost_42 rfl ?_
  obtain ⟨rfl, rfl⟩ := sp2 h
  exact j_iret C dX0_lost_43 (Nat.le_of_ble_eq_true rfl) (Nat.le_of_ble_eq_true rfl) ⟨rfl, rfl⟩
/-! red -/
def x_red_b44 (N : Nat) (l2 : Int32) : Nat → XS → Int32 → Int32 → Option (Int32 × XS)
  | 0, _, _, _ => none
  | n + 1, T, l4, l5 =>
    (if (T.1 17) ≤ l5 then
    some (l4, T)
    else
    chk 4000 l5 (
    (if ((T.2.1 15 l5.toNatClampNeg) / 60) = l2 then
    chk 4000 l5 (
    nm (l4 &&& ((1 <<< ((T.2.1 14 l5.toNatClampNeg) &&& 31)) ^^^ (-1))) fun x4 =>
    nm (l5 + 1) fun x5 =>
    x_red_b44 N l2 n T x4 x5)
    else
    nm (l5 + 1) fun x2 =>
    x_red_b44 N l2 n T l4 x2)))
theorem wx_red_b44 {κ : jK} (hκ : jX κ) (N : Nat) {Γ : jG} (C : jC κ Γ cX0_red 6 RX0 (some .int)) {G : Nat → Nat} (l2 : Int32) {v : Int32} {T' : XS} : ∀ (n : Nat) (T : XS) (l4 : Int32) (l5 : Int32), x_red_b44 N l2 n T l4 l5 = some (v, T') → J κ Γ (232, 16, 1024, (fun u w' => u = some (.int v) ∧ w' = wX κ G T')) 6 (wX κ G T) 16 1024 44 [some (.ref (G 0)), none, some (.int l2), none, some (.int l4), some (.int l5)] [] := by
  intro n
  induction n with
  | zero => intro _ _ _ h; cases h
  | succ n ih =>
    intro T l4 l5 h
    rw [x_red_b44] at h
    refine j_iload C dX0_red_44 rfl ?_
    refine j_aload_n C dX0_red_46 rfl rfl ?_
    refine jx_geti hκ C 17 (by decide) rfl q206 dX0_red_47 ?_
    refine j_icmp_ge C dX0_red_50 (tgt := 89) (by decide) (fun c => ?_) (fun c => ?_)
    · replace h := ip c h
      refine j_iload C dX0_red_89 rfl ?_
      obtain ⟨rfl, rfl⟩ := sp2 h
      exact j_iret C dX0_red_91 (Nat.le_of_ble_eq_true rfl) (Nat.le_of_ble_eq_true rfl) ⟨rfl, rfl⟩
    replace h := im c h
    refine j_aload_n C dX0_red_53 rfl rfl ?_
    refine jx_geta hκ C 15 (by decide) rfl rfl q204 dX0_red_54 ?_
    refine j_iload C dX0_red_57 rfl ?_
    obtain ⟨b1, h⟩ := chk_some h
    refine jx_iald hκ C 15 rfl rfl b1 dX0_red_59 ?_
    refine j_bipush C (v := 60) dX0_red_60 rfl ?_
    refine j_idiv C dX0_red_62 (by decide) ?_
    refine j_iload_n C dX0_red_63 rfl rfl ?_
    refine j_icmp_ne C dX0_red_64 (tgt := 83) (by decide) (fun c => ?_) (fun c => ?_)
    · replace h := im c h
      refine j_iincN C h dX0_red_83 rfl rfl (by decide) rfl (fun x2 h => ?_)
      refine j_goto C dX0_red_86 (tgt := 44) (by decide) ?_
      exact j_sub (ih _ _ _ h) ⟨rfl, ⟨rfl, ⟨rfl, ⟨rfl, trivial⟩⟩⟩⟩
    replace h := ip c h
    refine j_iload C dX0_red_67 rfl ?_
    refine j_iconst C (v := 1) dX0_red_69 rfl ?_
    refine j_aload_n C dX0_red_70 rfl rfl ?_
    refine jx_geta hκ C 14 (by decide) rfl rfl q203 dX0_red_71 ?_
    refine j_iload C dX0_red_74 rfl ?_
    obtain ⟨b3, h⟩ := chk_some h
    refine jx_iald hκ C 14 rfl rfl b3 dX0_red_76 ?_
    refine j_ishl C dX0_red_77 ?_
    refine j_iconst C (v := (-1)) dX0_red_78 rfl ?_
    refine j_ixor C dX0_red_79 ?_
    refine j_iand C dX0_red_80 ?_
    refine j_nmI h (fun x4 h => ?_)
    refine j_istore C dX0_red_81 (by decide) rfl ?_
    refine j_iincN C h dX0_red_83 rfl rfl (by decide) rfl (fun x5 h => ?_)
    refine j_goto C dX0_red_86 (tgt := 44) (by decide) ?_
    exact j_sub (ih _ _ _ h) ⟨rfl, ⟨rfl, ⟨rfl, ⟨rfl, trivial⟩⟩⟩⟩
def x_red (N : Nat) (T : XS) (p1 : Int32) (p2 : Int32) : Option (Int32 × XS) :=
  (x_isShelf p1).bind fun v2 =>
  (if (b2i v2) = 0 then
  some ((-1), T)
  else
  (x_in p2 0 15).bind fun v4 =>
  (if (b2i v4) = 0 then
  some ((-1), T)
  else
  b2 (x_layForth N T p1) fun v6 T7 =>
  (if 0 ≤ v6 then
  nm ((1 <<< ((T7.1 1) &&& 31)) - 1) fun x8 =>
  x_red_b44 N p2 N T7 x8 0
  else
  some (v6, T7))))
theorem mt_x_red {κ : jK} (hκ : jX κ) (N : Nat) (G : Nat → Nat) {T : XS} {p1 : Int32} {p2 : Int32} {v : Int32} {T' : XS} (h : x_red N T p1 p2 = some (v, T')) : jM κ yX0_red (ws_ yX0_red cX0_red 6 (some .int)) 232 16 1024 [.ref (G 0), .int p1, .int p2] (wX κ G T) (fun u w' => u = some (.int v) ∧ w' = wX κ G T') := by
  rw [x_red] at h
  refine jM.of (by decide) rfl (Nat.le_of_ble_eq_true rfl) fun Γ C _ => ?_
  show J κ Γ (232, 16, 1024, (fun u w' => u = some (.int v) ∧ w' = wX κ G T')) 6 (wX κ G T) 0 0 0 [some (.ref (G 0)), some (.int p1), some (.int p2), none, none, none] []
  refine j_iload_n C dX0_red_0 rfl rfl ?_
  obtain ⟨v2, e1, h⟩ := ob h
  refine j_Si hκ.1.1 C (mt_x_isShelf hκ e1) hG_x_isShelf hy_x_isShelf rfl dX0_red_1 (jfit.of (Nat.le_of_ble_eq_true rfl) (by decide) (Nat.le_of_ble_eq_true rfl) (Nat.le_of_ble_eq_true rfl) (Nat.le_of_ble_eq_true rfl)) rfl ?_
  refine j_if_eq C dX0_red_4 (tgt := 17) (by decide) (fun c => ?_) (fun c => ?_)
  · replace h := ip c h
    refine j_iconst C (v := (-1)) dX0_red_17 rfl ?_
    obtain ⟨rfl, rfl⟩ := sp2 h
    exact j_iret C dX0_red_18 (Nat.le_of_ble_eq_true rfl) (Nat.le_of_ble_eq_true rfl) ⟨rfl, rfl⟩
  replace h := im c h
  refine j_iload_n C dX0_red_7 rfl rfl ?_
  refine j_iconst C (v := 0) dX0_red_8 rfl ?_
  refine j_bipush C (v := 15) dX0_red_9 rfl ?_
  obtain ⟨v4, e3, h⟩ := ob h
  refine j_Si hκ.1.1 C (mt_x_in hκ e3) hG_x_in hy_x_in rfl dX0_red_11 (jfit.of (Nat.le_of_ble_eq_true rfl) (by decide) (Nat.le_of_ble_eq_true rfl) (Nat.le_of_ble_eq_true rfl) (Nat.le_of_ble_eq_true rfl)) rfl ?_
  refine j_if_ne C dX0_red_14 (tgt := 19) (by decide) (fun c => ?_) (fun c => ?_)
  · replace h := im c h
    refine j_aload_n C dX0_red_19 rfl rfl ?_
    refine j_iload_n C dX0_red_20 rfl rfl ?_
    obtain ⟨v6, T7, e5, h⟩ := ob2 h
    refine jx_Wi hκ C (mt_x_layForth hκ N G e5) hG_x_layForth hy_x_layForth rfl rfl dX0_red_21 ⟨(Nat.le_of_ble_eq_true rfl), by decide, Nat.le_of_ble_eq_true rfl, Nat.le_of_ble_eq_true rfl, Nat.le_of_ble_eq_true rfl⟩ rfl ?_
    refine j_istore_n C dX0_red_24 rfl (by decide) rfl ?_
    refine j_iload_n C dX0_red_25 rfl rfl ?_
    refine j_if_ge C dX0_red_26 (tgt := 31) (by decide) (fun c => ?_) (fun c => ?_)
    · replace h := ip c h
      refine j_iconst C (v := 1) dX0_red_31 rfl ?_
      refine j_aload_n C dX0_red_32 rfl rfl ?_
      refine jx_geti hκ C 1 (by decide) rfl q188 dX0_red_33 ?_
      refine j_ishl C dX0_red_36 ?_
      refine j_iconst C (v := 1) dX0_red_37 rfl ?_
      refine j_isub C dX0_red_38 ?_
      refine j_nmI h (fun x8 h => ?_)
      refine j_istore C dX0_red_39 (by decide) rfl ?_
      refine j_iconst C (v := 0) dX0_red_41 rfl ?_
      refine j_istore C dX0_red_42 (by decide) rfl ?_
      exact j_sub (wx_red_b44 hκ N C _ N _ _ _ h) ⟨rfl, ⟨rfl, ⟨rfl, ⟨rfl, trivial⟩⟩⟩⟩
    replace h := im c h
    refine j_iload_n C dX0_red_29 rfl rfl ?_
    obtain ⟨rfl, rfl⟩ := sp2 h
    exact j_iret C dX0_red_30 (Nat.le_of_ble_eq_true rfl) (Nat.le_of_ble_eq_true rfl) ⟨rfl, rfl⟩
  replace h := ip c h
  refine j_iconst C (v := (-1)) dX0_red_17 rfl ?_
  obtain ⟨rfl, rfl⟩ := sp2 h
  exact j_iret C dX0_red_18 (Nat.le_of_ble_eq_true rfl) (Nat.le_of_ble_eq_true rfl) ⟨rfl, rfl⟩
/-! gapOf -/
def x_gapOf_b54 (N : Nat) (T : XS) (l1 : Int32) (l2 : Int32) (l3 : Int32) (l4 : Int32) (l5 : Int32) (k20 : Int32 → Int32 → Int32 → Int32 → Option Int32) : Option Int32 :=
  (x_goesTo T l5 0).bind fun v2 =>
  (x_goesTo T (l5 + 1) 0).bind fun v4 =>
  (x_between T v2 v4).bind fun v6 =>
  nm (l2 + ((T.1 5) + v6)) fun x7 =>
  nm (l5 + 1) fun x8 =>
  k20 x7 l3 l4 x8
theorem wx_gapOf_b54 {κ : jK} (hκ : jX κ) (N : Nat) {Γ : jG} (C : jC κ Γ cX0_gapOf 6 RX0 (some .int)) {G : Nat → Nat} {T : XS} (l1 : Int32) (l2 : Int32) (l3 : Int32) (l4 : Int32) (l5 : Int32) (k20 : Int32 → Int32 → Int32 → Int32 → Option Int32) {v : Int32} (hk20 : ∀ (l2 : Int32) (l3 : Int32) (l4 : Int32) (l5 : Int32), k20 l2 l3 l4 l5 = some v → J κ Γ (4, 0, 0, (fun u w' => u = some (.int v) ∧ w' = wX κ G T)) 6 (wX κ G T) 0 0 20 [some (.ref (G 0)), some (.int l1), some (.int l2), some (.int l3), some (.int l4), some (.int l5)] []) : x_gapOf_b54 N T l1 l2 l3 l4 l5 k20 = some v → J κ Γ (4, 0, 0, (fun u w' => u = some (.int v) ∧ w' = wX κ G T)) 6 (wX κ G T) 0 0 54 [some (.ref (G 0)), some (.int l1), some (.int l2), some (.int l3), some (.int l4), some (.int l5)] [] := by
  intro  h
  rw [x_gapOf_b54] at h
  refine j_iload_n C dX0_gapOf_54 rfl rfl ?_
  refine j_aload_n C dX0_gapOf_55 rfl rfl ?_
  refine jx_geti hκ C 5 (by decide) rfl q192 dX0_gapOf_56 ?_
  refine j_aload_n C dX0_gapOf_59 rfl rfl ?_
  refine j_aload_n C dX0_gapOf_60 rfl rfl ?_
  refine j_iload C dX0_gapOf_61 rfl ?_
  refine j_iconst C (v := 0) dX0_gapOf_63 rfl ?_
  obtain ⟨v2, e1, h⟩ := ob h
  refine jx_Vi hκ C (mt_x_goesTo hκ G e1) hG_x_goesTo hy_x_goesTo rfl rfl dX0_gapOf_64 (jfit.of (Nat.le_of_ble_eq_true rfl) (by decide) (Nat.le_of_ble_eq_true rfl) (Nat.le_of_ble_eq_true rfl) (Nat.le_of_ble_eq_true rfl)) rfl ?_
  refine j_aload_n C dX0_gapOf_67 rfl rfl ?_
  refine j_iload C dX0_gapOf_68 rfl ?_
  refine j_iconst C (v := 1) dX0_gapOf_70 rfl ?_
  refine j_iadd C dX0_gapOf_71 ?_
  refine j_iconst C (v := 0) dX0_gapOf_72 rfl ?_
  obtain ⟨v4, e3, h⟩ := ob h
  refine jx_Vi hκ C (mt_x_goesTo hκ G e3) hG_x_goesTo hy_x_goesTo rfl rfl dX0_gapOf_73 (jfit.of (Nat.le_of_ble_eq_true rfl) (by decide) (Nat.le_of_ble_eq_true rfl) (Nat.le_of_ble_eq_true rfl) (Nat.le_of_ble_eq_true rfl)) rfl ?_
  obtain ⟨v6, e5, h⟩ := ob h
  refine jx_Vi hκ C (mt_x_between hκ G e5) hG_x_between hy_x_between rfl rfl dX0_gapOf_76 (jfit.of (Nat.le_of_ble_eq_true rfl) (by decide) (Nat.le_of_ble_eq_true rfl) (Nat.le_of_ble_eq_true rfl) (Nat.le_of_ble_eq_true rfl)) rfl ?_
  refine j_iadd C dX0_gapOf_79 ?_
  refine j_iadd C dX0_gapOf_80 ?_
  refine j_nmI h (fun x7 h => ?_)
  refine j_istore_n C dX0_gapOf_81 rfl (by decide) rfl ?_
  refine j_iincN C h dX0_gapOf_82 rfl rfl (by decide) rfl (fun x8 h => ?_)
  refine j_goto C dX0_gapOf_85 (tgt := 20) (by decide) ?_
  exact j_sub (hk20 _ _ _ _ h) ⟨rfl, ⟨rfl, ⟨rfl, ⟨rfl, ⟨rfl, ⟨rfl, trivial⟩⟩⟩⟩⟩⟩
def x_gapOf_b20 (N : Nat) (T : XS) (l1 : Int32) : Nat → Int32 → Int32 → Int32 → Int32 → Option Int32
  | 0, _, _, _, _ => none
  | n + 1, l2, l3, l4, l5 =>
    (if (2 * (T.1 16)) ≤ l5 then
    some l4
    else
    (x_goesTo T l5 0).bind fun v2 =>
    (if v2 = l1 then
    nm (jmax l4 (l2 - l3)) fun x3 =>
    x_gapOf_b54 N T l1 l2 l2 x3 l5 (fun y2 y3 y4 y5 => x_gapOf_b20 N T l1 n y2 y3 y4 y5)
    else
    x_gapOf_b54 N T l1 l2 l3 l4 l5 (fun y2 y3 y4 y5 => x_gapOf_b20 N T l1 n y2 y3 y4 y5)))
theorem wx_gapOf_b20 {κ : jK} (hκ : jX κ) (N : Nat) {Γ : jG} (C : jC κ Γ cX0_gapOf 6 RX0 (some .int)) {G : Nat → Nat} {T : XS} (l1 : Int32) {v : Int32} : ∀ (n : Nat) (l2 : Int32) (l3 : Int32) (l4 : Int32) (l5 : Int32), x_gapOf_b20 N T l1 n l2 l3 l4 l5 = some v → J κ Γ (4, 0, 0, (fun u w' => u = some (.int v) ∧ w' = wX κ G T)) 6 (wX κ G T) 0 0 20 [some (.ref (G 0)), some (.int l1), some (.int l2), some (.int l3), some (.int l4), some (.int l5)] [] := by
  intro n
  induction n with
  | zero => intro _ _ _ _ h; cases h
  | succ n ih =>
    intro l2 l3 l4 l5 h
    rw [x_gapOf_b20] at h
    refine j_iload C dX0_gapOf_20 rfl ?_
    refine j_iconst C (v := 2) dX0_gapOf_22 rfl ?_
    refine j_aload_n C dX0_gapOf_23 rfl rfl ?_
    refine jx_geti hκ C 16 (by decide) rfl q205 dX0_gapOf_24 ?_
    refine j_imul C dX0_gapOf_27 ?_
    refine j_icmp_ge C dX0_gapOf_28 (tgt := 88) (by decide) (fun c => ?_) (fun c => ?_)
    · replace h := ip c h
      refine j_iload C dX0_gapOf_88 rfl ?_
      obtain rfl := sp1 h
      exact j_iret C dX0_gapOf_90 (Nat.le_of_ble_eq_true rfl) (Nat.le_of_ble_eq_true rfl) ⟨rfl, rfl⟩
    replace h := im c h
    refine j_aload_n C dX0_gapOf_31 rfl rfl ?_
    refine j_iload C dX0_gapOf_32 rfl ?_
    refine j_iconst C (v := 0) dX0_gapOf_34 rfl ?_
    obtain ⟨v2, e1, h⟩ := ob h
    refine jx_Vi hκ C (mt_x_goesTo hκ G e1) hG_x_goesTo hy_x_goesTo rfl rfl dX0_gapOf_35 (jfit.of (Nat.le_of_ble_eq_true rfl) (by decide) (Nat.le_of_ble_eq_true rfl) (Nat.le_of_ble_eq_true rfl) (Nat.le_of_ble_eq_true rfl)) rfl ?_
    refine j_iload_n C dX0_gapOf_38 rfl rfl ?_
    refine j_icmp_ne C dX0_gapOf_39 (tgt := 54) (by decide) (fun c => ?_) (fun c => ?_)
    · replace h := im c h
      exact j_sub (wx_gapOf_b54 hκ N C _ _ _ _ _ _ (fun _ _ _ _ h => ih _ _ _ _ h) h) ⟨rfl, ⟨rfl, ⟨rfl, ⟨rfl, ⟨rfl, ⟨rfl, trivial⟩⟩⟩⟩⟩⟩
    replace h := ip c h
    refine j_iload C dX0_gapOf_42 rfl ?_
    refine j_iload_n C dX0_gapOf_44 rfl rfl ?_
    refine j_iload_n C dX0_gapOf_45 rfl rfl ?_
    refine j_isub C dX0_gapOf_46 ?_
    refine j_mmax C dX0_gapOf_47 q902 q695 q129 q696 (Nat.le_of_ble_eq_true rfl) (Nat.le_of_ble_eq_true rfl) (Nat.le_of_ble_eq_true rfl) (Nat.le_of_ble_eq_true rfl) ?_
    refine j_nmI h (fun x3 h => ?_)
    refine j_istore C dX0_gapOf_50 (by decide) rfl ?_
    refine j_iload_n C dX0_gapOf_52 rfl rfl ?_
    refine j_istore_n C dX0_gapOf_53 rfl (by decide) rfl ?_
    exact j_sub (wx_gapOf_b54 hκ N C _ _ _ _ _ _ (fun _ _ _ _ h => ih _ _ _ _ h) h) ⟨rfl, ⟨rfl, ⟨rfl, ⟨rfl, ⟨rfl, ⟨rfl, trivial⟩⟩⟩⟩⟩⟩
def x_gapOf (N : Nat) (T : XS) (p1 : Int32) : Option Int32 :=
  (x_fromGate T (T.2.1 13 0)).bind fun v2 =>
  x_gapOf_b20 N T p1 N v2 0 (-2) 0
theorem mt_x_gapOf {κ : jK} (hκ : jX κ) (N : Nat) (G : Nat → Nat) {T : XS} {p1 : Int32} {v : Int32} (h : x_gapOf N T p1 = some v) : jM κ yX0_gapOf (ws_ yX0_gapOf cX0_gapOf 6 (some .int)) 4 0 0 [.ref (G 0), .int p1] (wX κ G T) (fun u w' => u = some (.int v) ∧ w' = wX κ G T) := by
  rw [x_gapOf] at h
  refine jM.of (by decide) rfl (Nat.le_of_ble_eq_true rfl) fun Γ C _ => ?_
  show J κ Γ (4, 0, 0, (fun u w' => u = some (.int v) ∧ w' = wX κ G T)) 6 (wX κ G T) 0 0 0 [some (.ref (G 0)), some (.int p1), none, none, none, none] []
  refine j_aload_n C dX0_gapOf_0 rfl rfl ?_
  refine j_aload_n C dX0_gapOf_1 rfl rfl ?_
  refine jx_geta hκ C 13 (by decide) rfl rfl q202 dX0_gapOf_2 ?_
  refine j_iconst C (v := 0) dX0_gapOf_5 rfl ?_
  refine jx_ialdK hκ C 13 0 rfl rfl rfl (vp_k rfl) dX0_gapOf_6 ?_
  obtain ⟨v2, e1, h⟩ := ob h
  refine jx_Vi hκ C (mt_x_fromGate hκ G e1) hG_x_fromGate hy_x_fromGate rfl rfl dX0_gapOf_7 (jfit.of (Nat.le_of_ble_eq_true rfl) (by decide) (Nat.le_of_ble_eq_true rfl) (Nat.le_of_ble_eq_true rfl) (Nat.le_of_ble_eq_true rfl)) rfl ?_
  refine j_istore_n C dX0_gapOf_10 rfl (by decide) rfl ?_
  refine j_iconst C (v := 0) dX0_gapOf_11 rfl ?_
  refine j_istore_n C dX0_gapOf_12 rfl (by decide) rfl ?_
  refine j_bipush C (v := (-2)) dX0_gapOf_13 rfl ?_
  refine j_istore C dX0_gapOf_15 (by decide) rfl ?_
  refine j_iconst C (v := 0) dX0_gapOf_17 rfl ?_
  refine j_istore C dX0_gapOf_18 (by decide) rfl ?_
  exact j_sub (wx_gapOf_b20 hκ N C _ N _ _ _ _ h) ⟨rfl, ⟨rfl, ⟨rfl, ⟨rfl, ⟨rfl, ⟨rfl, trivial⟩⟩⟩⟩⟩⟩
/-! gapIn -/
def x_gapIn (N : Nat) (T : XS) (p1 : Int32) : Option Int32 :=
  (if (T.1 16) = 0 then
  some (-2)
  else
  (x_gapOf N T p1).bind fun v2 =>
  some v2)
theorem mt_x_gapIn {κ : jK} (hκ : jX κ) (N : Nat) (G : Nat → Nat) {T : XS} {p1 : Int32} {v : Int32} (h : x_gapIn N T p1 = some v) : jM κ yX0_gapIn (ws_ yX0_gapIn cX0_gapIn 2 (some .int)) 5 0 0 [.ref (G 0), .int p1] (wX κ G T) (fun u w' => u = some (.int v) ∧ w' = wX κ G T) := by
  rw [x_gapIn] at h
  refine jM.of (by decide) rfl (Nat.le_of_ble_eq_true rfl) fun Γ C _ => ?_
  show J κ Γ (5, 0, 0, (fun u w' => u = some (.int v) ∧ w' = wX κ G T)) 2 (wX κ G T) 0 0 0 [some (.ref (G 0)), some (.int p1)] []
  refine j_aload_n C dX0_gapIn_0 rfl rfl ?_
  refine jx_geti hκ C 16 (by decide) rfl q205 dX0_gapIn_1 ?_
  refine j_if_ne C dX0_gapIn_4 (tgt := 12) (by decide) (fun c => ?_) (fun c => ?_)
  · replace h := im c h
    refine j_aload_n C dX0_gapIn_12 rfl rfl ?_
    refine j_iload_n C dX0_gapIn_13 rfl rfl ?_
    obtain ⟨v2, e1, h⟩ := ob h
    refine jx_Vi hκ C (mt_x_gapOf hκ N G e1) hG_x_gapOf hy_x_gapOf rfl rfl dX0_gapIn_14 (jfit.of (Nat.le_of_ble_eq_true rfl) (by decide) (Nat.le_of_ble_eq_true rfl) (Nat.le_of_ble_eq_true rfl) (Nat.le_of_ble_eq_true rfl)) rfl ?_
    obtain rfl := sp1 h
    exact j_iret C dX0_gapIn_17 (Nat.le_of_ble_eq_true rfl) (Nat.le_of_ble_eq_true rfl) ⟨rfl, rfl⟩
  replace h := ip c h
  refine j_bipush C (v := (-2)) dX0_gapIn_7 rfl ?_
  refine j_goto C dX0_gapIn_9 (tgt := 17) (by decide) ?_
  obtain rfl := sp1 h
  exact j_iret C dX0_gapIn_17 (Nat.le_of_ble_eq_true rfl) (Nat.le_of_ble_eq_true rfl) ⟨rfl, rfl⟩
/-! gap -/
def x_gap (N : Nat) (T : XS) (p1 : Int32) (p2 : Int32) : Option (Int32 × XS) :=
  (x_isShelf p1).bind fun v2 =>
  (if (b2i v2) = 0 then
  some ((-1), T)
  else
  (x_isPost T p2).bind fun v4 =>
  (if (b2i v4) = 0 then
  some ((-1), T)
  else
  b2 (x_layRound N T p1) fun v6 T7 =>
  (if 0 ≤ v6 then
  (x_gapIn N T7 p2).bind fun v9 =>
  some (v9, T7)
  else
  some (v6, T7))))
theorem mt_x_gap {κ : jK} (hκ : jX κ) (N : Nat) (G : Nat → Nat) {T : XS} {p1 : Int32} {p2 : Int32} {v : Int32} {T' : XS} (h : x_gap N T p1 p2 = some (v, T')) : jM κ yX0_gap (ws_ yX0_gap cX0_gap 4 (some .int)) 231 16 1024 [.ref (G 0), .int p1, .int p2] (wX κ G T) (fun u w' => u = some (.int v) ∧ w' = wX κ G T') := by
  rw [x_gap] at h
  refine jM.of (by decide) rfl (Nat.le_of_ble_eq_true rfl) fun Γ C _ => ?_
  show J κ Γ (231, 16, 1024, (fun u w' => u = some (.int v) ∧ w' = wX κ G T')) 4 (wX κ G T) 0 0 0 [some (.ref (G 0)), some (.int p1), some (.int p2), none] []
  refine j_iload_n C dX0_gap_0 rfl rfl ?_
  obtain ⟨v2, e1, h⟩ := ob h
  refine j_Si hκ.1.1 C (mt_x_isShelf hκ e1) hG_x_isShelf hy_x_isShelf rfl dX0_gap_1 (jfit.of (Nat.le_of_ble_eq_true rfl) (by decide) (Nat.le_of_ble_eq_true rfl) (Nat.le_of_ble_eq_true rfl) (Nat.le_of_ble_eq_true rfl)) rfl ?_
  refine j_if_eq C dX0_gap_4 (tgt := 15) (by decide) (fun c => ?_) (fun c => ?_)
  · replace h := ip c h
    refine j_iconst C (v := (-1)) dX0_gap_15 rfl ?_
    obtain ⟨rfl, rfl⟩ := sp2 h
    exact j_iret C dX0_gap_16 (Nat.le_of_ble_eq_true rfl) (Nat.le_of_ble_eq_true rfl) ⟨rfl, rfl⟩
  replace h := im c h
  refine j_aload_n C dX0_gap_7 rfl rfl ?_
  refine j_iload_n C dX0_gap_8 rfl rfl ?_
  obtain ⟨v4, e3, h⟩ := ob h
  refine jx_Vi hκ C (mt_x_isPost hκ G e3) hG_x_isPost hy_x_isPost rfl rfl dX0_gap_9 (jfit.of (Nat.le_of_ble_eq_true rfl) (by decide) (Nat.le_of_ble_eq_true rfl) (Nat.le_of_ble_eq_true rfl) (Nat.le_of_ble_eq_true rfl)) rfl ?_
  refine j_if_ne C dX0_gap_12 (tgt := 17) (by decide) (fun c => ?_) (fun c => ?_)
  · replace h := im c h
    refine j_aload_n C dX0_gap_17 rfl rfl ?_
    refine j_iload_n C dX0_gap_18 rfl rfl ?_
    obtain ⟨v6, T7, e5, h⟩ := ob2 h
    refine jx_Hi hκ C (mt_x_layRound hκ N G e5) hG_x_layRound hy_x_layRound rfl rfl dX0_gap_19 ⟨(Nat.le_of_ble_eq_true rfl), by decide, Nat.le_of_ble_eq_true rfl, Nat.le_of_ble_eq_true rfl, Nat.le_of_ble_eq_true rfl⟩ rfl ?_
    refine j_istore_n C dX0_gap_22 rfl (by decide) rfl ?_
    refine j_iload_n C dX0_gap_23 rfl rfl ?_
    refine j_if_ge C dX0_gap_24 (tgt := 31) (by decide) (fun c => ?_) (fun c => ?_)
    · replace h := ip c h
      refine j_aload_n C dX0_gap_31 rfl rfl ?_
      refine j_iload_n C dX0_gap_32 rfl rfl ?_
      obtain ⟨v9, e8, h⟩ := ob h
      refine jx_Vi hκ C (mt_x_gapIn hκ N G e8) hG_x_gapIn hy_x_gapIn rfl rfl dX0_gap_33 (jfit.of (Nat.le_of_ble_eq_true rfl) (by decide) (Nat.le_of_ble_eq_true rfl) (Nat.le_of_ble_eq_true rfl) (Nat.le_of_ble_eq_true rfl)) rfl ?_
      obtain ⟨rfl, rfl⟩ := sp2 h
      exact j_iret C dX0_gap_36 (Nat.le_of_ble_eq_true rfl) (Nat.le_of_ble_eq_true rfl) ⟨rfl, rfl⟩
    replace h := im c h
    refine j_iload_n C dX0_gap_27 rfl rfl ?_
    refine j_goto C dX0_gap_28 (tgt := 36) (by decide) ?_
    obtain ⟨rfl, rfl⟩ := sp2 h
    exact j_iret C dX0_gap_36 (Nat.le_of_ble_eq_true rfl) (Nat.le_of_ble_eq_true rfl) ⟨rfl, rfl⟩
  replace h := ip c h
  refine j_iconst C (v := (-1)) dX0_gap_15 rfl ?_
  obtain ⟨rfl, rfl⟩ := sp2 h
  exact j_iret C dX0_gap_16 (Nat.le_of_ble_eq_true rfl) (Nat.le_of_ble_eq_true rfl) ⟨rfl, rfl⟩
/-! late -/
def x_late_b63 (N : Nat) (l3 : Int32) (l4 : Int32) (k26 : XS → Int32 → Int32 → Option (Int32 × XS)) (T : XS) : Option (Int32 × XS) :=
  nm (l3 ||| (1 <<< (l4 &&& 31))) fun x1 =>
  nm (l4 + 1) fun x2 =>
  k26 T x1 x2
theorem wx_late_b63 {κ : jK} (hκ : jX κ) (N : Nat) {Γ : jG} (C : jC κ Γ cX0_late 5 RX0 (some .int)) {G : Nat → Nat} (l3 : Int32) (l4 : Int32) (k26 : XS → Int32 → Int32 → Option (Int32 × XS)) {v : Int32} {T' : XS} (hk26 : ∀ (T : XS) (l3 : Int32) (l4 : Int32), k26 T l3 l4 = some (v, T') → J κ Γ (231, 16, 1024, (fun u w' => u = some (.int v) ∧ w' = wX κ G T')) 5 (wX κ G T) 16 1024 26 [some (.ref (G 0)), none, none, some (.int l3), some (.int l4)] []) : ∀ (T : XS), x_late_b63 N l3 l4 k26 T = some (v, T') → J κ Γ (231, 16, 1024, (fun u w' => u = some (.int v) ∧ w' = wX κ G T')) 5 (wX κ G T) 16 1024 63 [some (.ref (G 0)), none, none, some (.int l3), some (.int l4)] [] := by
  intro T h
  rw [x_late_b63] at h
  refine j_iload_n C dX0_late_63 rfl rfl ?_
  refine j_iconst C (v := 1) dX0_late_64 rfl ?_
  refine j_iload C dX0_late_65 rfl ?_
  refine j_ishl C dX0_late_67 ?_
  refine j_ior C dX0_late_68 ?_
  refine j_nmI h (fun x1 h => ?_)
  refine j_istore_n C dX0_late_69 rfl (by decide) rfl ?_
  refine j_iincN C h dX0_late_70 rfl rfl (by decide) rfl (fun x2 h => ?_)
  refine j_goto C dX0_late_73 (tgt := 26) (by decide) ?_
  exact j_sub (hk26 _ _ _ h) ⟨rfl, ⟨rfl, ⟨rfl, trivial⟩⟩⟩
def x_late_b26 (N : Nat) : Nat → XS → Int32 → Int32 → Option (Int32 × XS)
  | 0, _, _, _ => none
  | n + 1, T, l3, l4 =>
    (if (T.1 1) ≤ l4 then
    some (l3, T)
    else
    (x_gapIn N T l4).bind fun v2 =>
    (if v2 < 0 then
    x_late_b63 N l3 l4 (fun t y3 y4 => x_late_b26 N n t y3 y4) T
    else
    (x_gapIn N T l4).bind fun v4 =>
    chk 9 l4 (
    (T.2.2.1 0 l4.toNatClampNeg).bind fun a6 =>
    (getO T a6 3).bind fun q8 =>
    (if v4 ≤ (q8.2.1 3) then
    nm (l4 + 1) fun x10 =>
    x_late_b26 N n T l3 x10
    else
    x_late_b63 N l3 l4 (fun t y3 y4 => x_late_b26 N n t y3 y4) T))))
theorem wx_late_b26 {κ : jK} (hκ : jX κ) (N : Nat) {Γ : jG} (C : jC κ Γ cX0_late 5 RX0 (some .int)) {G : Nat → Nat}  {v : Int32} {T' : XS} : ∀ (n : Nat) (T : XS) (l3 : Int32) (l4 : Int32), x_late_b26 N n T l3 l4 = some (v, T') → J κ Γ (231, 16, 1024, (fun u w' => u = some (.int v) ∧ w' = wX κ G T')) 5 (wX κ G T) 16 1024 26 [some (.ref (G 0)), none, none, some (.int l3), some (.int l4)] [] := by
  intro n
  induction n with
  | zero => intro _ _ _ h; cases h
  | succ n ih =>
    intro T l3 l4 h
    rw [x_late_b26] at h
    refine j_iload C dX0_late_26 rfl ?_
    refine j_aload_n C dX0_late_28 rfl rfl ?_
    refine jx_geti hκ C 1 (by decide) rfl q188 dX0_late_29 ?_
    refine j_icmp_ge C dX0_late_32 (tgt := 76) (by decide) (fun c => ?_) (fun c => ?_)
    · replace h := ip c h
      refine j_iload_n C dX0_late_76 rfl rfl ?_
      obtain ⟨rfl, rfl⟩ := sp2 h
      exact j_iret C dX0_late_77 (Nat.le_of_ble_eq_true rfl) (Nat.le_of_ble_eq_true rfl) ⟨rfl, rfl⟩
    replace h := im c h
    refine j_aload_n C dX0_late_35 rfl rfl ?_
    refine j_iload C dX0_late_36 rfl ?_
    obtain ⟨v2, e1, h⟩ := ob h
    refine jx_Vi hκ C (mt_x_gapIn hκ N G e1) hG_x_gapIn hy_x_gapIn rfl rfl dX0_late_38 (jfit.of (Nat.le_of_ble_eq_true rfl) (by decide) (Nat.le_of_ble_eq_true rfl) (Nat.le_of_ble_eq_true rfl) (Nat.le_of_ble_eq_true rfl)) rfl ?_
    refine j_if_lt C dX0_late_41 (tgt := 63) (by decide) (fun c => ?_) (fun c => ?_)
    · replace h := ip c h
      exact j_sub (wx_late_b63 hκ N C _ _ _ (fun _ _ _ h => ih _ _ _ h) _ h) ⟨rfl, ⟨rfl, ⟨rfl, trivial⟩⟩⟩
    replace h := im c h
    refine j_aload_n C dX0_late_44 rfl rfl ?_
    refine j_iload C dX0_late_45 rfl ?_
    obtain ⟨v4, e3, h⟩ := ob h
    refine jx_Vi hκ C (mt_x_gapIn hκ N G e3) hG_x_gapIn hy_x_gapIn rfl rfl dX0_late_47 (jfit.of (Nat.le_of_ble_eq_true rfl) (by decide) (Nat.le_of_ble_eq_true rfl) (Nat.le_of_ble_eq_true rfl) (Nat.le_of_ble_eq_true rfl)) rfl ?_
    refine j_aload_n C dX0_late_50 rfl rfl ?_
    refine jx_geta hκ C 0 (by decide) rfl rfl q187 dX0_late_51 ?_
    refine j_iload C dX0_late_54 rfl ?_
    obtain ⟨b5, h⟩ := chk_some h
    obtain ⟨a6, w7, h⟩ := ob h
    refine jx_aaldP hκ C 0 rfl rfl b5 w7 dX0_late_56 ?_
    obtain ⟨q8, g9, h⟩ := ob h
    refine jx_gi3N hκ C g9 3 (by decide) rfl q364 dX0_late_57 ?_
    refine j_icmp_le C dX0_late_60 (tgt := 70) (by decide) (fun c => ?_) (fun c => ?_)
    · replace h := ip c h
      refine j_iincN C h dX0_late_70 rfl rfl (by decide) rfl (fun x10 h => ?_)
      refine j_goto C dX0_late_73 (tgt := 26) (by decide) ?_
      exact j_sub (ih _ _ _ h) ⟨rfl, ⟨rfl, ⟨rfl, trivial⟩⟩⟩
    replace h := im c h
    exact j_sub (wx_late_b63 hκ N C _ _ _ (fun _ _ _ h => ih _ _ _ h) _ h) ⟨rfl, ⟨rfl, ⟨rfl, trivial⟩⟩⟩
def x_late (N : Nat) (T : XS) (p1 : Int32) : Option (Int32 × XS) :=
  (x_isShelf p1).bind fun v2 =>
  (if (b2i v2) = 0 then
  some ((-1), T)
  else
  b2 (x_layRound N T p1) fun v4 T5 =>
  (if 0 ≤ v4 then
  x_late_b26 N N T5 0 0
  else
  some (v4, T5)))
theorem mt_x_late {κ : jK} (hκ : jX κ) (N : Nat) (G : Nat → Nat) {T : XS} {p1 : Int32} {v : Int32} {T' : XS} (h : x_late N T p1 = some (v, T')) : jM κ yX0_late (ws_ yX0_late cX0_late 5 (some .int)) 231 16 1024 [.ref (G 0), .int p1] (wX κ G T) (fun u w' => u = some (.int v) ∧ w' = wX κ G T') := by
  rw [x_late] at h
  refine jM.of (by decide) rfl (Nat.le_of_ble_eq_true rfl) fun Γ C _ => ?_
  show J κ Γ (231, 16, 1024, (fun u w' => u = some (.int v) ∧ w' = wX κ G T')) 5 (wX κ G T) 0 0 0 [some (.ref (G 0)), some (.int p1), none, none, none] []
  refine j_iload_n C dX0_late_0 rfl rfl ?_
  obtain ⟨v2, e1, h⟩ := ob h
  refine j_Si hκ.1.1 C (mt_x_isShelf hκ e1) hG_x_isShelf hy_x_isShelf rfl dX0_late_1 (jfit.of (Nat.le_of_ble_eq_true rfl) (by decide) (Nat.le_of_ble_eq_true rfl) (Nat.le_of_ble_eq_true rfl) (Nat.le_of_ble_eq_true rfl)) rfl ?_
  refine j_if_ne C dX0_late_4 (tgt := 9) (by decide) (fun c => ?_) (fun c => ?_)
  · replace h := im c h
    refine j_aload_n C dX0_late_9 rfl rfl ?_
    refine j_iload_n C dX0_late_10 rfl rfl ?_
    obtain ⟨v4, T5, e3, h⟩ := ob2 h
    refine jx_Hi hκ C (mt_x_layRound hκ N G e3) hG_x_layRound hy_x_layRound rfl rfl dX0_late_11 ⟨(Nat.le_of_ble_eq_true rfl), by decide, Nat.le_of_ble_eq_true rfl, Nat.le_of_ble_eq_true rfl, Nat.le_of_ble_eq_true rfl⟩ rfl ?_
    refine j_istore_n C dX0_late_14 rfl (by decide) rfl ?_
    refine j_iload_n C dX0_late_15 rfl rfl ?_
    refine j_if_ge C dX0_late_16 (tgt := 21) (by decide) (fun c => ?_) (fun c => ?_)
    · replace h := ip c h
      refine j_iconst C (v := 0) dX0_late_21 rfl ?_
      refine j_istore_n C dX0_late_22 rfl (by decide) rfl ?_
      refine j_iconst C (v := 0) dX0_late_23 rfl ?_
      refine j_istore C dX0_late_24 (by decide) rfl ?_
      exact j_sub (wx_late_b26 hκ N C N _ _ _ h) ⟨rfl, ⟨rfl, ⟨rfl, trivial⟩⟩⟩
    replace h := im c h
    refine j_iload_n C dX0_late_19 rfl rfl ?_
    obtain ⟨rfl, rfl⟩ := sp2 h
    exact j_iret C dX0_late_20 (Nat.le_of_ble_eq_true rfl) (Nat.le_of_ble_eq_true rfl) ⟨rfl, rfl⟩
  replace h := ip c h
  refine j_iconst C (v := (-1)) dX0_late_7 rfl ?_
  obtain ⟨rfl, rfl⟩ := sp2 h
  exact j_iret C dX0_late_8 (Nat.le_of_ble_eq_true rfl) (Nat.le_of_ble_eq_true rfl) ⟨rfl, rfl⟩
/-! arePosts -/
def x_arePosts (T : XS) (p1 : Int32) : Option Bool :=
  (x_in p1 0 ((1 <<< ((T.1 1) &&& 31)) - 1)).bind fun v2 =>
  some v2
theorem mt_x_arePosts {κ : jK} (hκ : jX κ) (G : Nat → Nat) {T : XS} {p1 : Int32} {v : Bool} (h : x_arePosts T p1 = some v) : jM κ yX0_arePosts (ws_ yX0_arePosts cX0_arePosts 2 (some .boolean)) 1 0 0 [.ref (G 0), .int p1] (wX κ G T) (fun u w' => u = some (.int (b2i v)) ∧ w' = wX κ G T) := by
  rw [x_arePosts] at h
  refine jM.of (by decide) rfl (Nat.le_of_ble_eq_true rfl) fun Γ C _ => ?_
  show J κ Γ (1, 0, 0, (fun u w' => u = some (.int (b2i v)) ∧ w' = wX κ G T)) 2 (wX κ G T) 0 0 0 [some (.ref (G 0)), some (.int p1)] []
  refine j_iload_n C dX0_arePosts_0 rfl rfl ?_
  refine j_iconst C (v := 0) dX0_arePosts_1 rfl ?_
  refine j_iconst C (v := 1) dX0_arePosts_2 rfl ?_
  refine j_aload_n C dX0_arePosts_3 rfl rfl ?_
  refine jx_geti hκ C 1 (by decide) rfl q188 dX0_arePosts_4 ?_
  refine j_ishl C dX0_arePosts_7 ?_
  refine j_iconst C (v := 1) dX0_arePosts_8 rfl ?_
  refine j_isub C dX0_arePosts_9 ?_
  obtain ⟨v2, e1, h⟩ := ob h
  refine j_Si hκ.1.1 C (mt_x_in hκ e1) hG_x_in hy_x_in rfl dX0_arePosts_10 (jfit.of (Nat.le_of_ble_eq_true rfl) (by decide) (Nat.le_of_ble_eq_true rfl) (Nat.le_of_ble_eq_true rfl) (Nat.le_of_ble_eq_true rfl)) rfl ?_
  obtain rfl := sp1 h
  exact j_zret C (b2i_z _) dX0_arePosts_13 (Nat.le_of_ble_eq_true rfl) (Nat.le_of_ble_eq_true rfl) ⟨rfl, rfl⟩
/-! has -/
def x_has (p1 : Int32) (p2 : Int32) : Option Bool :=
  (if ((p1 >>> (p2 &&& 31)) &&& 1) = 1 then
  some true
  else
  some false)
theorem mt_x_has {κ : jK} (hκ : jX κ) {w : jW} {p1 : Int32} {p2 : Int32} {v : Bool} (h : x_has p1 p2 = some v) : jM κ yX0_has (ws_ yX0_has cX0_has 2 (some .boolean)) 0 0 0 [.int p1, .int p2] (w) (fun u w' => u = some (.int (b2i v)) ∧ w' = w) := by
  rw [x_has] at h
  refine jM.of (by decide) rfl (Nat.le_of_ble_eq_true rfl) fun Γ C _ => ?_
  show J κ Γ (0, 0, 0, (fun u w' => u = some (.int (b2i v)) ∧ w' = w)) 2 (w) 0 0 0 [some (.int p1), some (.int p2)] []
  refine j_iload_n C dX0_has_0 rfl rfl ?_
  refine j_iload_n C dX0_has_1 rfl rfl ?_
  refine j_ishr C dX0_has_2 ?_
  refine j_iconst C (v := 1) dX0_has_3 rfl ?_
  refine j_iand C dX0_has_4 ?_
  refine j_iconst C (v := 1) dX0_has_5 rfl ?_
  refine j_icmp_ne C dX0_has_6 (tgt := 13) (by decide) (fun c => ?_) (fun c => ?_)
  · replace h := im c h
    refine j_iconst C (v := 0) dX0_has_13 rfl ?_
    obtain rfl := sp1 h
    exact j_zret C rfl dX0_has_14 (Nat.le_of_ble_eq_true rfl) (Nat.le_of_ble_eq_true rfl) ⟨rfl, rfl⟩
  replace h := ip c h
  refine j_iconst C (v := 1) dX0_has_9 rfl ?_
  refine j_goto C dX0_has_10 (tgt := 14) (by decide) ?_
  obtain rfl := sp1 h
  exact j_zret C rfl dX0_has_14 (Nat.le_of_ble_eq_true rfl) (Nat.le_of_ble_eq_true rfl) ⟨rfl, rfl⟩
/-! goShortest -/
def x_goShortest_b65 (o : XS → Int32 → Int32 → Int32 → Int32 → Option XS) (N : Nat) (l2 : Int32) : Nat → XS → Int32 → Option XS
  | 0, _, _ => none
  | n + 1, T, l6 =>
    (if l2 ≤ l6 then
    some T
    else
    chk 9 l6 (
    chk 9 l6 (
    nm (xA T 19 l6.toNatClampNeg (T.2.1 18 l6.toNatClampNeg)) fun T2 =>
    nm (l6 + 1) fun x4 =>
    x_goShortest_b65 o N l2 n T2 x4)))
theorem wx_goShortest_b65 {κ : jK} (hκ : jX κ) (N : Nat) {Γ : jG} (C : jC κ Γ cX0_goShortest 7 RX0 none) {G : Nat → Nat} (d : Nat) {o : XS → Int32 → Int32 → Int32 → Int32 → Option XS} (ho : ∀ {T : XS} {p1 : Int32} {p2 : Int32} {p3 : Int32} {p4 : Int32} {T' : XS}, o T p1 p2 p3 p4 = some T' → jM κ yX0_goShortest (ws_ yX0_goShortest cX0_goShortest 7 none) (4 * d + 1) 0 0 [.ref (G 0), .int p1, .int p2, .int p3, .int p4] (wX κ G T) (fun u w' => u = none ∧ w' = wX κ G T')) (l2 : Int32) {T' : XS} : ∀ (n : Nat) (T : XS) (l6 : Int32), x_goShortest_b65 o N l2 n T l6 = some T' → J κ Γ ((4 * (d + 1) + 1), 0, 0, (fun u w' => u = none ∧ w' = wX κ G T')) 7 (wX κ G T) 0 0 65 [some (.ref (G 0)), none, some (.int l2), none, none, none, some (.int l6)] [] := by
  intro n
  induction n with
  | zero => intro _ _ h; cases h
  | succ n ih =>
    intro T l6 h
    rw [x_goShortest_b65] at h
    refine j_iload C dX0_goShortest_65 rfl ?_
    refine j_iload_n C dX0_goShortest_67 rfl rfl ?_
    refine j_icmp_ge C dX0_goShortest_68 (tgt := 91) (by decide) (fun c => ?_) (fun c => ?_)
    · replace h := ip c h
      obtain rfl := sp1 h
      exact j_vret C dX0_goShortest_91 (Nat.le_of_ble_eq_true rfl) (Nat.le_of_ble_eq_true rfl) ⟨rfl, rfl⟩
    replace h := im c h
    refine j_aload_n C dX0_goShortest_71 rfl rfl ?_
    refine jx_geta hκ C 19 (by decide) rfl rfl q208 dX0_goShortest_72 ?_
    refine j_iload C dX0_goShortest_75 rfl ?_
    refine j_aload_n C dX0_goShortest_77 rfl rfl ?_
    refine jx_geta hκ C 18 (by decide) rfl rfl q207 dX0_goShortest_78 ?_
    refine j_iload C dX0_goShortest_81 rfl ?_
    obtain ⟨b1, h⟩ := chk_some h
    refine jx_iald hκ C 18 rfl rfl b1 dX0_goShortest_83 ?_
    obtain ⟨b3, h⟩ := chk_some h
    refine jx_iast hκ C 19 rfl rfl b3 dX0_goShortest_84 ?_
    refine jx_nmT h (fun T2 h => ?_)
    refine j_iincN C h dX0_goShortest_85 rfl rfl (by decide) rfl (fun x4 h => ?_)
    refine j_goto C dX0_goShortest_88 (tgt := 65) (by decide) ?_
    exact j_sub (ih _ _ h) ⟨rfl, ⟨rfl, ⟨rfl, trivial⟩⟩⟩
def x_goShortest_b36 (o : XS → Int32 → Int32 → Int32 → Int32 → Option XS) (N : Nat) (l2 : Int32) (T : XS) (s1 : Int32) (s2 : Int32) : Option XS :=
  nm (s1 + s2) fun x1 =>
  (if (T.1 20) < 0 then
  nm (xI T 20 x1) fun T2 =>
  x_goShortest_b65 o N l2 N T2 0
  else
  (if x1 < (T.1 20) then
  nm (xI T 20 x1) fun T3 =>
  x_goShortest_b65 o N l2 N T3 0
  else
  some T))
theorem wx_goShortest_b36 {κ : jK} (hκ : jX κ) (N : Nat) {Γ : jG} (C : jC κ Γ cX0_goShortest 7 RX0 none) {G : Nat → Nat} (d : Nat) {o : XS → Int32 → Int32 → Int32 → Int32 → Option XS} (ho : ∀ {T : XS} {p1 : Int32} {p2 : Int32} {p3 : Int32} {p4 : Int32} {T' : XS}, o T p1 p2 p3 p4 = some T' → jM κ yX0_goShortest (ws_ yX0_goShortest cX0_goShortest 7 none) (4 * d + 1) 0 0 [.ref (G 0), .int p1, .int p2, .int p3, .int p4] (wX κ G T) (fun u w' => u = none ∧ w' = wX κ G T')) (l2 : Int32) {T' : XS} : ∀ (T : XS) (s1 : Int32) (s2 : Int32), x_goShortest_b36 o N l2 T s1 s2 = some T' → J κ Γ ((4 * (d + 1) + 1), 0, 0, (fun u w' => u = none ∧ w' = wX κ G T')) 7 (wX κ G T) 0 0 36 [some (.ref (G 0)), none, some (.int l2), none, none, none, none] [.int s2, .int s1] := by
  intro T s1 s2 h
  rw [x_goShortest_b36] at h
  refine j_iadd C dX0_goShortest_36 ?_
  refine j_nmI h (fun x1 h => ?_)
  refine j_istore C dX0_goShortest_37 (by decide) rfl ?_
  refine j_aload_n C dX0_goShortest_39 rfl rfl ?_
  refine jx_geti hκ C 20 (by decide) rfl q209 dX0_goShortest_40 ?_
  refine j_if_lt C dX0_goShortest_43 (tgt := 56) (by decide) (fun c => ?_) (fun c => ?_)
  · replace h := ip c h
    refine j_aload_n C dX0_goShortest_56 rfl rfl ?_
    refine j_iload C dX0_goShortest_57 rfl ?_
    refine jx_puti hκ C 20 (by decide) rfl rfl rfl q209 dX0_goShortest_59 ?_
    refine jx_nmT h (fun T2 h => ?_)
    refine j_iconst C (v := 0) dX0_goShortest_62 rfl ?_
    refine j_istore C dX0_goShortest_63 (by decide) rfl ?_
    exact j_sub (wx_goShortest_b65 hκ N C d ho _ N _ _ h) ⟨rfl, ⟨rfl, ⟨rfl, trivial⟩⟩⟩
  replace h := im c h
  refine j_iload C dX0_goShortest_46 rfl ?_
  refine j_aload_n C dX0_goShortest_48 rfl rfl ?_
  refine jx_geti hκ C 20 (by decide) rfl q209 dX0_goShortest_49 ?_
  refine j_icmp_lt C dX0_goShortest_52 (tgt := 56) (by decide) (fun c => ?_) (fun c => ?_)
  · replace h := ip c h
    refine j_aload_n C dX0_goShortest_56 rfl rfl ?_
    refine j_iload C dX0_goShortest_57 rfl ?_
    refine jx_puti hκ C 20 (by decide) rfl rfl rfl q209 dX0_goShortest_59 ?_
    refine jx_nmT h (fun T3 h => ?_)
    refine j_iconst C (v := 0) dX0_goShortest_62 rfl ?_
    refine j_istore C dX0_goShortest_63 (by decide) rfl ?_
    exact j_sub (wx_goShortest_b65 hκ N C d ho _ N _ _ h) ⟨rfl, ⟨rfl, ⟨rfl, trivial⟩⟩⟩
  replace h := im c h
  obtain rfl := sp1 h
  exact j_vret C dX0_goShortest_55 (Nat.le_of_ble_eq_true rfl) (Nat.le_of_ble_eq_true rfl) ⟨rfl, rfl⟩
def x_goShortest_b95 (o : XS → Int32 → Int32 → Int32 → Int32 → Option XS) (N : Nat) (l1 : Int32) (l2 : Int32) (l3 : Int32) (l4 : Int32) : Nat → XS → Int32 → Option XS
  | 0, _, _ => none
  | n + 1, T, l5 =>
    (if (T.1 1) ≤ l5 then
    some T
    else
    (x_has l1 l5).bind fun v2 =>
    (if (b2i v2) = 0 then
    nm (l5 + 1) fun x17 =>
    x_goShortest_b95 o N l1 l2 l3 l4 n T x17
    else
    chk 9 l2 (
    nm (xA T 18 l2.toNatClampNeg l5) fun T3 =>
    (if 0 ≤ l4 then
    (x_between T3 l4 l5).bind fun v6 =>
    (o T3 (l1 &&& ((1 <<< (l5 &&& 31)) ^^^ (-1))) (l2 + 1) ((l3 + (T3.1 5)) + v6) l5).bind fun T9 =>
    nm (l5 + 1) fun x10 =>
    x_goShortest_b95 o N l1 l2 l3 l4 n T9 x10
    else
    (x_fromGate T3 l5).bind fun v12 =>
    (o T3 (l1 &&& ((1 <<< (l5 &&& 31)) ^^^ (-1))) (l2 + 1) ((l3 + (T3.1 5)) + v12) l5).bind fun T15 =>
    nm (l5 + 1) fun x16 =>
    x_goShortest_b95 o N l1 l2 l3 l4 n T15 x16))))
theorem wx_goShortest_b95 {κ : jK} (hκ : jX κ) (N : Nat) {Γ : jG} (C : jC κ Γ cX0_goShortest 7 RX0 none) {G : Nat → Nat} (d : Nat) {o : XS → Int32 → Int32 → Int32 → Int32 → Option XS} (ho : ∀ {T : XS} {p1 : Int32} {p2 : Int32} {p3 : Int32} {p4 : Int32} {T' : XS}, o T p1 p2 p3 p4 = some T' → jM κ yX0_goShortest (ws_ yX0_goShortest cX0_goShortest 7 none) (4 * d + 1) 0 0 [.ref (G 0), .int p1, .int p2, .int p3, .int p4] (wX κ G T) (fun u w' => u = none ∧ w' = wX κ G T')) (l1 : Int32) (l2 : Int32) (l3 : Int32) (l4 : Int32) {T' : XS} : ∀ (n : Nat) (T : XS) (l5 : Int32), x_goShortest_b95 o N l1 l2 l3 l4 n T l5 = some T' → J κ Γ ((4 * (d + 1) + 1), 0, 0, (fun u w' => u = none ∧ w' = wX κ G T')) 7 (wX κ G T) 0 0 95 [some (.ref (G 0)), some (.int l1), some (.int l2), some (.int l3), some (.int l4), some (.int l5), none] [] := by
  intro n
  induction n with
  | zero => intro _ _ h; cases h
  | succ n ih =>
    intro T l5 h
    rw [x_goShortest_b95] at h
    refine j_iload C dX0_goShortest_95 rfl ?_
    refine j_aload_n C dX0_goShortest_97 rfl rfl ?_
    refine jx_geti hκ C 1 (by decide) rfl q188 dX0_goShortest_98 ?_
    refine j_icmp_ge C dX0_goShortest_101 (tgt := 176) (by decide) (fun c => ?_) (fun c => ?_)
    · replace h := ip c h
      obtain rfl := sp1 h
      exact j_vret C dX0_goShortest_176 (Nat.le_of_ble_eq_true rfl) (Nat.le_of_ble_eq_true rfl) ⟨rfl, rfl⟩
    replace h := im c h
    refine j_iload_n C dX0_goShortest_104 rfl rfl ?_
    refine j_iload C dX0_goShortest_105 rfl ?_
    obtain ⟨v2, e1, h⟩ := ob h
    refine j_Si hκ.1.1 C (mt_x_has hκ e1) hG_x_has hy_x_has rfl dX0_goShortest_107 (jfit.of (by omega) (by decide) (Nat.le_of_ble_eq_true rfl) (Nat.le_of_ble_eq_true rfl) (Nat.le_of_ble_eq_true rfl)) rfl ?_
    refine j_if_ne C dX0_goShortest_110 (tgt := 116) (by decide) (fun c => ?_) (fun c => ?_)
    · replace h := im c h
      refine j_aload_n C dX0_goShortest_116 rfl rfl ?_
      refine jx_geta hκ C 18 (by decide) rfl rfl q207 dX0_goShortest_117 ?_
      refine j_iload_n C dX0_goShortest_120 rfl rfl ?_
      refine j_iload C dX0_goShortest_121 rfl ?_
      obtain ⟨b4, h⟩ := chk_some h
      refine jx_iast hκ C 18 rfl rfl b4 dX0_goShortest_123 ?_
      refine jx_nmT h (fun T3 h => ?_)
      refine j_aload_n C dX0_goShortest_124 rfl rfl ?_
      refine j_iload_n C dX0_goShortest_125 rfl rfl ?_
      refine j_iconst C (v := 1) dX0_goShortest_126 rfl ?_
      refine j_iload C dX0_goShortest_127 rfl ?_
      refine j_ishl C dX0_goShortest_129 ?_
      refine j_iconst C (v := (-1)) dX0_goShortest_130 rfl ?_
      refine j_ixor C dX0_goShortest_131 ?_
      refine j_iand C dX0_goShortest_132 ?_
      refine j_iload_n C dX0_goShortest_133 rfl rfl ?_
      refine j_iconst C (v := 1) dX0_goShortest_134 rfl ?_
      refine j_iadd C dX0_goShortest_135 ?_
      refine j_iload_n C dX0_goShortest_136 rfl rfl ?_
      refine j_aload_n C dX0_goShortest_137 rfl rfl ?_
      refine jx_geti hκ C 5 (by decide) rfl q192 dX0_goShortest_138 ?_
      refine j_iadd C dX0_goShortest_141 ?_
      refine j_iload C dX0_goShortest_142 rfl ?_
      refine j_if_ge C dX0_goShortest_144 (tgt := 156) (by decide) (fun c => ?_) (fun c => ?_)
      · replace h := ip c h
        refine j_aload_n C dX0_goShortest_156 rfl rfl ?_
        refine j_iload C dX0_goShortest_157 rfl ?_
        refine j_iload C dX0_goShortest_159 rfl ?_
        obtain ⟨v6, e5, h⟩ := ob h
        refine jx_Vi hκ C (mt_x_between hκ G e5) hG_x_between hy_x_between rfl rfl dX0_goShortest_161 (jfit.of (by omega) (by decide) (Nat.le_of_ble_eq_true rfl) (Nat.le_of_ble_eq_true rfl) (Nat.le_of_ble_eq_true rfl)) rfl ?_
        refine j_iadd C dX0_goShortest_164 ?_
        refine j_iload C dX0_goShortest_165 rfl ?_
        obtain ⟨T9, e7, h⟩ := ob h
        refine jx_Vv hκ C (ho e7) hG_x_goShortest hy_x_goShortest rfl rfl dX0_goShortest_167 (jfit.of (by omega) (by decide) (Nat.le_of_ble_eq_true rfl) (Nat.le_of_ble_eq_true rfl) (Nat.le_of_ble_eq_true rfl)) rfl ?_
        refine j_iincN C h dX0_goShortest_170 rfl rfl (by decide) rfl (fun x10 h => ?_)
        refine j_goto C dX0_goShortest_173 (tgt := 95) (by decide) ?_
        exact j_sub (ih _ _ h) ⟨rfl, ⟨rfl, ⟨rfl, ⟨rfl, ⟨rfl, ⟨rfl, trivial⟩⟩⟩⟩⟩⟩
      replace h := im c h
      refine j_aload_n C dX0_goShortest_147 rfl rfl ?_
      refine j_iload C dX0_goShortest_148 rfl ?_
      obtain ⟨v12, e11, h⟩ := ob h
      refine jx_Vi hκ C (mt_x_fromGate hκ G e11) hG_x_fromGate hy_x_fromGate rfl rfl dX0_goShortest_150 (jfit.of (by omega) (by decide) (Nat.le_of_ble_eq_true rfl) (Nat.le_of_ble_eq_true rfl) (Nat.le_of_ble_eq_true rfl)) rfl ?_
      refine j_goto C dX0_goShortest_153 (tgt := 164) (by decide) ?_
      refine j_iadd C dX0_goShortest_164 ?_
      refine j_iload C dX0_goShortest_165 rfl ?_
      obtain ⟨T15, e13, h⟩ := ob h
      refine jx_Vv hκ C (ho e13) hG_x_goShortest hy_x_goShortest rfl rfl dX0_goShortest_167 (jfit.of (by omega) (by decide) (Nat.le_of_ble_eq_true rfl) (Nat.le_of_ble_eq_true rfl) (Nat.le_of_ble_eq_true rfl)) rfl ?_
      refine j_iincN C h dX0_goShortest_170 rfl rfl (by decide) rfl (fun x16 h => ?_)
      refine j_goto C dX0_goShortest_173 (tgt := 95) (by decide) ?_
      exact j_sub (ih _ _ h) ⟨rfl, ⟨rfl, ⟨rfl, ⟨rfl, ⟨rfl, ⟨rfl, trivial⟩⟩⟩⟩⟩⟩
    replace h := ip c h
    refine j_goto C dX0_goShortest_113 (tgt := 170) (by decide) ?_
    refine j_iincN C h dX0_goShortest_170 rfl rfl (by decide) rfl (fun x17 h => ?_)
    refine j_goto C dX0_goShortest_173 (tgt := 95) (by decide) ?_
    exact j_sub (ih _ _ h) ⟨rfl, ⟨rfl, ⟨rfl, ⟨rfl, ⟨rfl, ⟨rfl, trivial⟩⟩⟩⟩⟩⟩
def x_goShortest_b16 (o : XS → Int32 → Int32 → Int32 → Int32 → Option XS) (N : Nat) (l1 : Int32) (l2 : Int32) (l3 : Int32) (l4 : Int32) (T : XS) : Option XS :=
  (if l1 = 0 then
  (if 0 ≤ l4 then
  (x_fromGate T l4).bind fun v2 =>
  x_goShortest_b36 o N l2 T l3 v2
  else
  x_goShortest_b36 o N l2 T l3 0)
  else
  x_goShortest_b95 o N l1 l2 l3 l4 N T 0)
theorem wx_goShortest_b16 {κ : jK} (hκ : jX κ) (N : Nat) {Γ : jG} (C : jC κ Γ cX0_goShortest 7 RX0 none) {G : Nat → Nat} (d : Nat) {o : XS → Int32 → Int32 → Int32 → Int32 → Option XS} (ho : ∀ {T : XS} {p1 : Int32} {p2 : Int32} {p3 : Int32} {p4 : Int32} {T' : XS}, o T p1 p2 p3 p4 = some T' → jM κ yX0_goShortest (ws_ yX0_goShortest cX0_goShortest 7 none) (4 * d + 1) 0 0 [.ref (G 0), .int p1, .int p2, .int p3, .int p4] (wX κ G T) (fun u w' => u = none ∧ w' = wX κ G T')) (l1 : Int32) (l2 : Int32) (l3 : Int32) (l4 : Int32) {T' : XS} : ∀ (T : XS), x_goShortest_b16 o N l1 l2 l3 l4 T = some T' → J κ Γ ((4 * (d + 1) + 1), 0, 0, (fun u w' => u = none ∧ w' = wX κ G T')) 7 (wX κ G T) 0 0 16 [some (.ref (G 0)), some (.int l1), some (.int l2), some (.int l3), some (.int l4), none, none] [] := by
  intro T h
  rw [x_goShortest_b16] at h
  refine j_iload_n C dX0_goShortest_16 rfl rfl ?_
  refine j_if_ne C dX0_goShortest_17 (tgt := 92) (by decide) (fun c => ?_) (fun c => ?_)
  · replace h := im c h
    refine j_iconst C (v := 0) dX0_goShortest_92 rfl ?_
    refine j_istore C dX0_goShortest_93 (by decide) rfl ?_
    exact j_sub (wx_goShortest_b95 hκ N C d ho _ _ _ _ N _ _ h) ⟨rfl, ⟨rfl, ⟨rfl, ⟨rfl, ⟨rfl, ⟨rfl, trivial⟩⟩⟩⟩⟩⟩
  replace h := ip c h
  refine j_iload_n C dX0_goShortest_20 rfl rfl ?_
  refine j_iload C dX0_goShortest_21 rfl ?_
  refine j_if_ge C dX0_goShortest_23 (tgt := 30) (by decide) (fun c => ?_) (fun c => ?_)
  · replace h := ip c h
    refine j_aload_n C dX0_goShortest_30 rfl rfl ?_
    refine j_iload C dX0_goShortest_31 rfl ?_
    obtain ⟨v2, e1, h⟩ := ob h
    refine jx_Vi hκ C (mt_x_fromGate hκ G e1) hG_x_fromGate hy_x_fromGate rfl rfl dX0_goShortest_33 (jfit.of (by omega) (by decide) (Nat.le_of_ble_eq_true rfl) (Nat.le_of_ble_eq_true rfl) (Nat.le_of_ble_eq_true rfl)) rfl ?_
    exact j_sub (wx_goShortest_b36 hκ N C d ho _ _ _ _ h) ⟨rfl, ⟨rfl, trivial⟩⟩
  replace h := im c h
  refine j_iconst C (v := 0) dX0_goShortest_26 rfl ?_
  refine j_goto C dX0_goShortest_27 (tgt := 36) (by decide) ?_
  exact j_sub (wx_goShortest_b36 hκ N C d ho _ _ _ _ h) ⟨rfl, ⟨rfl, trivial⟩⟩
def x_goShortest (N : Nat) : Nat → XS → Int32 → Int32 → Int32 → Int32 → Option XS
  | 0, _, _, _, _, _ => none
  | d + 1, T, p1, p2, p3, p4 =>
    (if (T.1 20) < 0 then
    x_goShortest_b16 (x_goShortest N d) N p1 p2 p3 p4 T
    else
    (if p3 < (T.1 20) then
    x_goShortest_b16 (x_goShortest N d) N p1 p2 p3 p4 T
    else
    some T))
theorem mt_x_goShortest {κ : jK} (hκ : jX κ) (N : Nat) (G : Nat → Nat) : ∀ (d : Nat) {T : XS} {p1 : Int32} {p2 : Int32} {p3 : Int32} {p4 : Int32} {T' : XS}, x_goShortest N d T p1 p2 p3 p4 = some T' → jM κ yX0_goShortest (ws_ yX0_goShortest cX0_goShortest 7 none) (4 * d + 1) 0 0 [.ref (G 0), .int p1, .int p2, .int p3, .int p4] (wX κ G T) (fun u w' => u = none ∧ w' = wX κ G T') := by
  intro d
  induction d with
  | zero => intro _ _ _ _ _ _ h; cases h
  | succ d ih =>
    intro T p1 p2 p3 p4 T' h
    rw [x_goShortest] at h
    refine jM.of (by decide) rfl (Nat.le_of_ble_eq_true rfl) fun Γ C _ => ?_
    show J κ Γ ((4 * (d + 1) + 1), 0, 0, (fun u w' => u = none ∧ w' = wX κ G T')) 7 (wX κ G T) 0 0 0 [some (.ref (G 0)), some (.int p1), some (.int p2), some (.int p3), some (.int p4), none, none] []
    refine j_aload_n C dX0_goShortest_0 rfl rfl ?_
    refine jx_geti hκ C 20 (by decide) rfl q209 dX0_goShortest_1 ?_
    refine j_if_lt C dX0_goShortest_4 (tgt := 16) (by decide) (fun c => ?_) (fun c => ?_)
    · replace h := ip c h
      exact j_sub (wx_goShortest_b16 hκ N C d ih _ _ _ _ _ h) ⟨rfl, ⟨rfl, ⟨rfl, ⟨rfl, ⟨rfl, trivial⟩⟩⟩⟩⟩
    replace h := im c h
    refine j_iload_n C dX0_goShortest_7 rfl rfl ?_
    refine j_aload_n C dX0_goShortest_8 rfl rfl ?_
    refine jx_geti hκ C 20 (by decide) rfl q209 dX0_goShortest_9 ?_
    refine j_icmp_lt C dX0_goShortest_12 (tgt := 16) (by decide) (fun c => ?_) (fun c => ?_)
    · replace h := ip c h
      exact j_sub (wx_goShortest_b16 hκ N C d ih _ _ _ _ _ h) ⟨rfl, ⟨rfl, ⟨rfl, ⟨rfl, ⟨rfl, trivial⟩⟩⟩⟩⟩
    replace h := im c h
    obtain rfl := sp1 h
    exact j_vret C dX0_goShortest_15 (Nat.le_of_ble_eq_true rfl) (Nat.le_of_ble_eq_true rfl) ⟨rfl, rfl⟩
/-! shortestOf -/
def x_shortestOf (N : Nat) (T : XS) (p1 : Int32) : Option (Int32 × XS) :=
  nm (xI T 20 (-1)) fun T1 =>
  (x_goShortest N 10 T1 p1 0 0 (-1)).bind fun T4 =>
  some (T4.1 20, T4)
theorem mt_x_shortestOf {κ : jK} (hκ : jX κ) (N : Nat) (G : Nat → Nat) {T : XS} {p1 : Int32} {v : Int32} {T' : XS} (h : x_shortestOf N T p1 = some (v, T')) : jM κ yX0_shortestOf (ws_ yX0_shortestOf cX0_shortestOf 2 (some .int)) 42 0 0 [.ref (G 0), .int p1] (wX κ G T) (fun u w' => u = some (.int v) ∧ w' = wX κ G T') := by
  rw [x_shortestOf] at h
  refine jM.of (by decide) rfl (Nat.le_of_ble_eq_true rfl) fun Γ C _ => ?_
  show J κ Γ (42, 0, 0, (fun u w' => u = some (.int v) ∧ w' = wX κ G T')) 2 (wX κ G T) 0 0 0 [some (.ref (G 0)), some (.int p1)] []
  refine j_aload_n C dX0_shortestOf_0 rfl rfl ?_
  refine j_iconst C (v := (-1)) dX0_shortestOf_1 rfl ?_
  refine jx_puti hκ C 20 (by decide) rfl rfl rfl q209 dX0_shortestOf_2 ?_
  refine jx_nmT h (fun T1 h => ?_)
  refine j_aload_n C dX0_shortestOf_5 rfl rfl ?_
  refine j_iload_n C dX0_shortestOf_6 rfl rfl ?_
  refine j_iconst C (v := 0) dX0_shortestOf_7 rfl ?_
  refine j_iconst C (v := 0) dX0_shortestOf_8 rfl ?_
  refine j_iconst C (v := (-1)) dX0_shortestOf_9 rfl ?_
  obtain ⟨T4, e2, h⟩ := ob h
  refine jx_Vv hκ C (mt_x_goShortest hκ N G 10 e2) hG_x_goShortest hy_x_goShortest rfl rfl dX0_shortestOf_10 (jfit.of (Nat.le_of_ble_eq_true rfl) (by decide) (Nat.le_of_ble_eq_true rfl) (Nat.le_of_ble_eq_true rfl) (Nat.le_of_ble_eq_true rfl)) rfl ?_
  refine j_aload_n C dX0_shortestOf_13 rfl rfl ?_
  refine jx_geti hκ C 20 (by decide) rfl q209 dX0_shortestOf_14 ?_
  obtain ⟨rfl, rfl⟩ := sp2 h
  exact j_iret C dX0_shortestOf_17 (Nat.le_of_ble_eq_true rfl) (Nat.le_of_ble_eq_true rfl) ⟨rfl, rfl⟩
/-! shortest -/
def x_shortest (N : Nat) (T : XS) (p1 : Int32) (p2 : Int32) : Option (Int32 × XS) :=
  (x_arePosts T p1).bind fun v2 =>
  (if (b2i v2) = 0 then
  some ((-1), T)
  else
  (if (-1) ≤ p2 then
  (j_bitCount p1).bind fun v4 =>
  (if v4 ≤ 7 then
  b2 (x_shortestOf N T p1) fun v6 T7 =>
  (if 0 ≤ p2 then
  (j_bitCount p1).bind fun v9 =>
  (if v9 ≤ p2 then
  some ((-2), T7)
  else
  chk 9 p2 (
  some (T7.2.1 19 p2.toNatClampNeg, T7)))
  else
  some (v6, T7))
  else
  some ((-5), T))
  else
  some ((-1), T)))
theorem mt_x_shortest {κ : jK} (hκ : jX κ) (N : Nat) (G : Nat → Nat) {T : XS} {p1 : Int32} {p2 : Int32} {v : Int32} {T' : XS} (h : x_shortest N T p1 p2 = some (v, T')) : jM κ yX0_shortest (ws_ yX0_shortest cX0_shortest 4 (some .int)) 43 0 0 [.ref (G 0), .int p1, .int p2] (wX κ G T) (fun u w' => u = some (.int v) ∧ w' = wX κ G T') := by
  rw [x_shortest] at h
  refine jM.of (by decide) rfl (Nat.le_of_ble_eq_true rfl) fun Γ C _ => ?_
  show J κ Γ (43, 0, 0, (fun u w' => u = some (.int v) ∧ w' = wX κ G T')) 4 (wX κ G T) 0 0 0 [some (.ref (G 0)), some (.int p1), some (.int p2), none] []
  refine j_aload_n C dX0_shortest_0 rfl rfl ?_
  refine j_iload_n C dX0_shortest_1 rfl rfl ?_
  obtain ⟨v2, e1, h⟩ := ob h
  refine jx_Vi hκ C (mt_x_arePosts hκ G e1) hG_x_arePosts hy_x_arePosts rfl rfl dX0_shortest_2 (jfit.of (Nat.le_of_ble_eq_true rfl) (by decide) (Nat.le_of_ble_eq_true rfl) (Nat.le_of_ble_eq_true rfl) (Nat.le_of_ble_eq_true rfl)) rfl ?_
  refine j_if_eq C dX0_shortest_5 (tgt := 13) (by decide) (fun c => ?_) (fun c => ?_)
  · replace h := ip c h
    refine j_iconst C (v := (-1)) dX0_shortest_13 rfl ?_
    obtain ⟨rfl, rfl⟩ := sp2 h
    exact j_iret C dX0_shortest_14 (Nat.le_of_ble_eq_true rfl) (Nat.le_of_ble_eq_true rfl) ⟨rfl, rfl⟩
  replace h := im c h
  refine j_iload_n C dX0_shortest_8 rfl rfl ?_
  refine j_iconst C (v := (-1)) dX0_shortest_9 rfl ?_
  refine j_icmp_ge C dX0_shortest_10 (tgt := 15) (by decide) (fun c => ?_) (fun c => ?_)
  · replace h := ip c h
    refine j_iload_n C dX0_shortest_15 rfl rfl ?_
    obtain ⟨v4, e3, h⟩ := ob h
    refine j_Si hκ.1.1 C (mt_j_bitCount hκ.1 e3) hG_j_bitCount_x hy_j_bitCount rfl dX0_shortest_16 (jfit.of (Nat.le_of_ble_eq_true rfl) (by decide) (Nat.le_of_ble_eq_true rfl) (Nat.le_of_ble_eq_true rfl) (Nat.le_of_ble_eq_true rfl)) rfl ?_
    refine j_bipush C (v := 7) dX0_shortest_19 rfl ?_
    refine j_icmp_le C dX0_shortest_21 (tgt := 27) (by decide) (fun c => ?_) (fun c => ?_)
    · replace h := ip c h
      refine j_aload_n C dX0_shortest_27 rfl rfl ?_
      refine j_iload_n C dX0_shortest_28 rfl rfl ?_
      obtain ⟨v6, T7, e5, h⟩ := ob2 h
      refine jx_Vi hκ C (mt_x_shortestOf hκ N G e5) hG_x_shortestOf hy_x_shortestOf rfl rfl dX0_shortest_29 (jfit.of (Nat.le_of_ble_eq_true rfl) (by decide) (Nat.le_of_ble_eq_true rfl) (Nat.le_of_ble_eq_true rfl) (Nat.le_of_ble_eq_true rfl)) rfl ?_
      refine j_istore_n C dX0_shortest_32 rfl (by decide) rfl ?_
      refine j_iload_n C dX0_shortest_33 rfl rfl ?_
      refine j_if_ge C dX0_shortest_34 (tgt := 41) (by decide) (fun c => ?_) (fun c => ?_)
      · replace h := ip c h
        refine j_iload_n C dX0_shortest_41 rfl rfl ?_
        refine j_iload_n C dX0_shortest_42 rfl rfl ?_
        obtain ⟨v9, e8, h⟩ := ob h
        refine j_Si hκ.1.1 C (mt_j_bitCount hκ.1 e8) hG_j_bitCount_x hy_j_bitCount rfl dX0_shortest_43 (jfit.of (Nat.le_of_ble_eq_true rfl) (by decide) (Nat.le_of_ble_eq_true rfl) (Nat.le_of_ble_eq_true rfl) (Nat.le_of_ble_eq_true rfl)) rfl ?_
        refine j_icmp_ge C dX0_shortest_46 (tgt := 58) (by decide) (fun c => ?_) (fun c => ?_)
        · replace h := ip c h
          refine j_bipush C (v := (-2)) dX0_shortest_58 rfl ?_
          obtain ⟨rfl, rfl⟩ := sp2 h
          exact j_iret C dX0_shortest_60 (Nat.le_of_ble_eq_true rfl) (Nat.le_of_ble_eq_true rfl) ⟨rfl, rfl⟩
        replace h := im c h
        refine j_aload_n C dX0_shortest_49 rfl rfl ?_
        refine jx_geta hκ C 19 (by decide) rfl rfl q208 dX0_shortest_50 ?_
        refine j_iload_n C dX0_shortest_53 rfl rfl ?_
        obtain ⟨b10, h⟩ := chk_some h
        refine jx_iald hκ C 19 rfl rfl b10 dX0_shortest_54 ?_
        refine j_goto C dX0_shortest_55 (tgt := 60) (by decide) ?_
        obtain ⟨rfl, rfl⟩ := sp2 h
        exact j_iret C dX0_shortest_60 (Nat.le_of_ble_eq_true rfl) (Nat.le_of_ble_eq_true rfl) ⟨rfl, rfl⟩
      replace h := im c h
      refine j_iload_n C dX0_shortest_37 rfl rfl ?_
      refine j_goto C dX0_shortest_38 (tgt := 60) (by decide) ?_
      obtain ⟨rfl, rfl⟩ := sp2 h
      exact j_iret C dX0_shortest_60 (Nat.le_of_ble_eq_true rfl) (Nat.le_of_ble_eq_true rfl) ⟨rfl, rfl⟩
    replace h := im c h
    refine j_bipush C (v := (-5)) dX0_shortest_24 rfl ?_
    obtain ⟨rfl, rfl⟩ := sp2 h
    exact j_iret C dX0_shortest_26 (Nat.le_of_ble_eq_true rfl) (Nat.le_of_ble_eq_true rfl) ⟨rfl, rfl⟩
  replace h := im c h
  refine j_iconst C (v := (-1)) dX0_shortest_13 rfl ?_
  obtain ⟨rfl, rfl⟩ := sp2 h
  exact j_iret C dX0_shortest_14 (Nat.le_of_ble_eq_true rfl) (Nat.le_of_ble_eq_true rfl) ⟨rfl, rfl⟩
/-! leftOut -/
def x_leftOut_b41 (N : Nat) (l1 : Int32) (l2 : Int32) : Nat → XS → Int32 → Int32 → Int32 → Option (Int32 × XS)
  | 0, _, _, _, _ => none
  | n + 1, T, l3, l4, l5 =>
    (if (T.1 1) ≤ l5 then
    (if l2 = 0 then
    some (l3, T)
    else
    some (l4, T))
    else
    (x_has l1 l5).bind fun v2 =>
    (if (b2i v2) = 0 then
    nm (l5 + 1) fun x9 =>
    x_leftOut_b41 N l1 l2 n T l3 l4 x9
    else
    b2 (x_shortestOf N T (l1 &&& ((1 <<< (l5 &&& 31)) ^^^ (-1)))) fun v4 T5 =>
    (if l3 < 0 then
    nm (l5 + 1) fun x6 =>
    x_leftOut_b41 N l1 l2 n T5 l5 v4 x6
    else
    (if v4 < l4 then
    nm (l5 + 1) fun x7 =>
    x_leftOut_b41 N l1 l2 n T5 l5 v4 x7
    else
    nm (l5 + 1) fun x8 =>
    x_leftOut_b41 N l1 l2 n T5 l3 l4 x8))))
theorem wx_leftOut_b41 {κ : jK} (hκ : jX κ) (N : Nat) {Γ : jG} (C : jC κ Γ cX0_leftOut 7 RX0 (some .int)) {G : Nat → Nat} (l1 : Int32) (l2 : Int32) {v : Int32} {T' : XS} : ∀ (n : Nat) (T : XS) (l3 : Int32) (l4 : Int32) (l5 : Int32), x_leftOut_b41 N l1 l2 n T l3 l4 l5 = some (v, T') → J κ Γ (43, 0, 0, (fun u w' => u = some (.int v) ∧ w' = wX κ G T')) 7 (wX κ G T) 0 0 41 [some (.ref (G 0)), some (.int l1), some (.int l2), some (.int l3), some (.int l4), some (.int l5), none] [] := by
  intro n
  induction n with
  | zero => intro _ _ _ _ h; cases h
  | succ n ih =>
    intro T l3 l4 l5 h
    rw [x_leftOut_b41] at h
    refine j_iload C dX0_leftOut_41 rfl ?_
    refine j_aload_n C dX0_leftOut_43 rfl rfl ?_
    refine jx_geti hκ C 1 (by decide) rfl q188 dX0_leftOut_44 ?_
    refine j_icmp_ge C dX0_leftOut_47 (tgt := 103) (by decide) (fun c => ?_) (fun c => ?_)
    · replace h := ip c h
      refine j_iload_n C dX0_leftOut_103 rfl rfl ?_
      refine j_if_ne C dX0_leftOut_104 (tgt := 111) (by decide) (fun c => ?_) (fun c => ?_)
      · replace h := im c h
        refine j_iload C dX0_leftOut_111 rfl ?_
        obtain ⟨rfl, rfl⟩ := sp2 h
        exact j_iret C dX0_leftOut_113 (Nat.le_of_ble_eq_true rfl) (Nat.le_of_ble_eq_true rfl) ⟨rfl, rfl⟩
      replace h := ip c h
      refine j_iload_n C dX0_leftOut_107 rfl rfl ?_
      refine j_goto C dX0_leftOut_108 (tgt := 113) (by decide) ?_
      obtain ⟨rfl, rfl⟩ := sp2 h
      exact j_iret C dX0_leftOut_113 (Nat.le_of_ble_eq_true rfl) (Nat.le_of_ble_eq_true rfl) ⟨rfl, rfl⟩
    replace h := im c h
    refine j_iload_n C dX0_leftOut_50 rfl rfl ?_
    refine j_iload C dX0_leftOut_51 rfl ?_
    obtain ⟨v2, e1, h⟩ := ob h
    refine j_Si hκ.1.1 C (mt_x_has hκ e1) hG_x_has hy_x_has rfl dX0_leftOut_53 (jfit.of (Nat.le_of_ble_eq_true rfl) (by decide) (Nat.le_of_ble_eq_true rfl) (Nat.le_of_ble_eq_true rfl) (Nat.le_of_ble_eq_true rfl)) rfl ?_
    refine j_if_ne C dX0_leftOut_56 (tgt := 62) (by decide) (fun c => ?_) (fun c => ?_)
    · replace h := im c h
      refine j_aload_n C dX0_leftOut_62 rfl rfl ?_
      refine j_iload_n C dX0_leftOut_63 rfl rfl ?_
      refine j_iconst C (v := 1) dX0_leftOut_64 rfl ?_
      refine j_iload C dX0_leftOut_65 rfl ?_
      refine j_ishl C dX0_leftOut_67 ?_
      refine j_iconst C (v := (-1)) dX0_leftOut_68 rfl ?_
      refine j_ixor C dX0_leftOut_69 ?_
      refine j_iand C dX0_leftOut_70 ?_
      obtain ⟨v4, T5, e3, h⟩ := ob2 h
      refine jx_Vi hκ C (mt_x_shortestOf hκ N G e3) hG_x_shortestOf hy_x_shortestOf rfl rfl dX0_leftOut_71 (jfit.of (Nat.le_of_ble_eq_true rfl) (by decide) (Nat.le_of_ble_eq_true rfl) (Nat.le_of_ble_eq_true rfl) (Nat.le_of_ble_eq_true rfl)) rfl ?_
      refine j_istore C dX0_leftOut_74 (by decide) rfl ?_
      refine j_iload_n C dX0_leftOut_76 rfl rfl ?_
      refine j_if_lt C dX0_leftOut_77 (tgt := 90) (by decide) (fun c => ?_) (fun c => ?_)
      · replace h := ip c h
        refine j_iload C dX0_leftOut_90 rfl ?_
        refine j_istore_n C dX0_leftOut_92 rfl (by decide) rfl ?_
        refine j_iload C dX0_leftOut_93 rfl ?_
        refine j_istore C dX0_leftOut_95 (by decide) rfl ?_
        refine j_iincN C h dX0_leftOut_97 rfl rfl (by decide) rfl (fun x6 h => ?_)
        refine j_goto C dX0_leftOut_100 (tgt := 41) (by decide) ?_
        exact j_sub (ih _ _ _ _ h) ⟨rfl, ⟨rfl, ⟨rfl, ⟨rfl, ⟨rfl, ⟨rfl, trivial⟩⟩⟩⟩⟩⟩
      replace h := im c h
      refine j_iload C dX0_leftOut_80 rfl ?_
      refine j_iload C dX0_leftOut_82 rfl ?_
      refine j_icmp_lt C dX0_leftOut_84 (tgt := 90) (by decide) (fun c => ?_) (fun c => ?_)
      · replace h := ip c h
        refine j_iload C dX0_leftOut_90 rfl ?_
        refine j_istore_n C dX0_leftOut_92 rfl (by decide) rfl ?_
        refine j_iload C dX0_leftOut_93 rfl ?_
        refine j_istore C dX0_leftOut_95 (by decide) rfl ?_
        refine j_iincN C h dX0_leftOut_97 rfl rfl (by decide) rfl (fun x7 h => ?_)
        refine j_goto C dX0_leftOut_100 (tgt := 41) (by decide) ?_
        exact j_sub (ih _ _ _ _ h) ⟨rfl, ⟨rfl, ⟨rfl, ⟨rfl, ⟨rfl, ⟨rfl, trivial⟩⟩⟩⟩⟩⟩
      replace h := im c h
      refine j_goto C dX0_leftOut_87 (tgt := 97) (by decide) ?_
      refine j_iincN C h dX0_leftOut_97 rfl rfl (by decide) rfl (fun x8 h => ?_)
      refine j_goto C dX0_leftOut_100 (tgt := 41) (by decide) ?_
      exact j_sub (ih _ _ _ _ h) ⟨rfl, ⟨rfl, ⟨rfl, ⟨rfl, ⟨rfl, ⟨rfl, trivial⟩⟩⟩⟩⟩⟩
    replace h := ip c h
    refine j_goto C dX0_leftOut_59 (tgt := 97) (by decide) ?_
    refine j_iincN C h dX0_leftOut_97 rfl rfl (by decide) rfl (fun x9 h => ?_)
    refine j_goto C dX0_leftOut_100 (tgt := 41) (by decide) ?_
    exact j_sub (ih _ _ _ _ h) ⟨rfl, ⟨rfl, ⟨rfl, ⟨rfl, ⟨rfl, ⟨rfl, trivial⟩⟩⟩⟩⟩⟩
def x_leftOut (N : Nat) (T : XS) (p1 : Int32) (p2 : Int32) : Option (Int32 × XS) :=
  (x_arePosts T p1).bind fun v2 =>
  (if (b2i v2) = 0 then
  some ((-1), T)
  else
  (x_in p2 0 1).bind fun v4 =>
  (if (b2i v4) = 0 then
  some ((-1), T)
  else
  (j_bitCount p1).bind fun v6 =>
  (if v6 ≤ 7 then
  x_leftOut_b41 N p1 p2 N T (-2) (-2) 0
  else
  some ((-5), T))))
theorem mt_x_leftOut {κ : jK} (hκ : jX κ) (N : Nat) (G : Nat → Nat) {T : XS} {p1 : Int32} {p2 : Int32} {v : Int32} {T' : XS} (h : x_leftOut N T p1 p2 = some (v, T')) : jM κ yX0_leftOut (ws_ yX0_leftOut cX0_leftOut 7 (some .int)) 43 0 0 [.ref (G 0), .int p1, .int p2] (wX κ G T) (fun u w' => u = some (.int v) ∧ w' = wX κ G T') := by
  rw [x_leftOut] at h
  refine jM.of (by decide) rfl (Nat.le_of_ble_eq_true rfl) fun Γ C _ => ?_
  show J κ Γ (43, 0, 0, (fun u w' => u = some (.int v) ∧ w' = wX κ G T')) 7 (wX κ G T) 0 0 0 [some (.ref (G 0)), some (.int p1), some (.int p2), none, none, none, none] []
  refine j_aload_n C dX0_leftOut_0 rfl rfl ?_
  refine j_iload_n C dX0_leftOut_1 rfl rfl ?_
  obtain ⟨v2, e1, h⟩ := ob h
  refine jx_Vi hκ C (mt_x_arePosts hκ G e1) hG_x_arePosts hy_x_arePosts rfl rfl dX0_leftOut_2 (jfit.of (Nat.le_of_ble_eq_true rfl) (by decide) (Nat.le_of_ble_eq_true rfl) (Nat.le_of_ble_eq_true rfl) (Nat.le_of_ble_eq_true rfl)) rfl ?_
  refine j_if_eq C dX0_leftOut_5 (tgt := 17) (by decide) (fun c => ?_) (fun c => ?_)
  · replace h := ip c h
    refine j_iconst C (v := (-1)) dX0_leftOut_17 rfl ?_
    obtain ⟨rfl, rfl⟩ := sp2 h
    exact j_iret C dX0_leftOut_18 (Nat.le_of_ble_eq_true rfl) (Nat.le_of_ble_eq_true rfl) ⟨rfl, rfl⟩
  replace h := im c h
  refine j_iload_n C dX0_leftOut_8 rfl rfl ?_
  refine j_iconst C (v := 0) dX0_leftOut_9 rfl ?_
  refine j_iconst C (v := 1) dX0_leftOut_10 rfl ?_
  obtain ⟨v4, e3, h⟩ := ob h
  refine j_Si hκ.1.1 C (mt_x_in hκ e3) hG_x_in hy_x_in rfl dX0_leftOut_11 (jfit.of (Nat.le_of_ble_eq_true rfl) (by decide) (Nat.le_of_ble_eq_true rfl) (Nat.le_of_ble_eq_true rfl) (Nat.le_of_ble_eq_true rfl)) rfl ?_
  refine j_if_ne C dX0_leftOut_14 (tgt := 19) (by decide) (fun c => ?_) (fun c => ?_)
  · replace h := im c h
    refine j_iload_n C dX0_leftOut_19 rfl rfl ?_
    obtain ⟨v6, e5, h⟩ := ob h
    refine j_Si hκ.1.1 C (mt_j_bitCount hκ.1 e5) hG_j_bitCount_x hy_j_bitCount rfl dX0_leftOut_20 (jfit.of (Nat.le_of_ble_eq_true rfl) (by decide) (Nat.le_of_ble_eq_true rfl) (Nat.le_of_ble_eq_true rfl) (Nat.le_of_ble_eq_true rfl)) rfl ?_
    refine j_bipush C (v := 7) dX0_leftOut_23 rfl ?_
    refine j_icmp_le C dX0_leftOut_25 (tgt := 31) (by decide) (fun c => ?_) (fun c => ?_)
    · replace h := ip c h
      refine j_bipush C (v := (-2)) dX0_leftOut_31 rfl ?_
      refine j_istore_n C dX0_leftOut_33 rfl (by decide) rfl ?_
      refine j_bipush C (v := (-2)) dX0_leftOut_34 rfl ?_
      refine j_istore C dX0_leftOut_36 (by decide) rfl ?_
      refine j_iconst C (v := 0) dX0_leftOut_38 rfl ?_
      refine j_istore C dX0_leftOut_39 (by decide) rfl ?_
      exact j_sub (wx_leftOut_b41 hκ N C _ _ N _ _ _ _ h) ⟨rfl, ⟨rfl, ⟨rfl, ⟨rfl, ⟨rfl, ⟨rfl, trivial⟩⟩⟩⟩⟩⟩
    replace h := im c h
    refine j_bipush C (v := (-5)) dX0_leftOut_28 rfl ?_
    obtain ⟨rfl, rfl⟩ := sp2 h
    exact j_iret C dX0_leftOut_30 (Nat.le_of_ble_eq_true rfl) (Nat.le_of_ble_eq_true rfl) ⟨rfl, rfl⟩
  replace h := ip c h
  refine j_iconst C (v := (-1)) dX0_leftOut_17 rfl ?_
  obtain ⟨rfl, rfl⟩ := sp2 h
  exact j_iret C dX0_leftOut_18 (Nat.le_of_ble_eq_true rfl) (Nat.le_of_ble_eq_true rfl) ⟨rfl, rfl⟩
/-! areNeeded -/
def x_areNeeded (p1 : Int32) : Option Bool :=
  (x_in p1 1 99).bind fun v2 =>
  some v2
theorem mt_x_areNeeded {κ : jK} (hκ : jX κ) {w : jW} {p1 : Int32} {v : Bool} (h : x_areNeeded p1 = some v) : jM κ yX0_areNeeded (ws_ yX0_areNeeded cX0_areNeeded 1 (some .boolean)) 1 0 0 [.int p1] (w) (fun u w' => u = some (.int (b2i v)) ∧ w' = w) := by
  rw [x_areNeeded] at h
  refine jM.of (by decide) rfl (Nat.le_of_ble_eq_true rfl) fun Γ C _ => ?_
  show J κ Γ (1, 0, 0, (fun u w' => u = some (.int (b2i v)) ∧ w' = w)) 1 (w) 0 0 0 [some (.int p1)] []
  refine j_iload_n C dX0_areNeeded_0 rfl rfl ?_
  refine j_iconst C (v := 1) dX0_areNeeded_1 rfl ?_
  refine j_bipush C (v := 99) dX0_areNeeded_2 rfl ?_
  obtain ⟨v2, e1, h⟩ := ob h
  refine j_Si hκ.1.1 C (mt_x_in hκ e1) hG_x_in hy_x_in rfl dX0_areNeeded_4 (jfit.of (Nat.le_of_ble_eq_true rfl) (by decide) (Nat.le_of_ble_eq_true rfl) (Nat.le_of_ble_eq_true rfl) (Nat.le_of_ble_eq_true rfl)) rfl ?_
  obtain rfl := sp1 h
  exact j_zret C (b2i_z _) dX0_areNeeded_7 (Nat.le_of_ble_eq_true rfl) (Nat.le_of_ble_eq_true rfl) ⟨rfl, rfl⟩
/-! timeFrom -/
def x_timeFrom_b96 (N : Nat) (T : XS) (l3 : Int32) (l6 : Int32) : Option Int32 :=
  (if l3 < l6 then
  some (-2)
  else
  some l6)
theorem wx_timeFrom_b96 {κ : jK} (hκ : jX κ) (N : Nat) {Γ : jG} (C : jC κ Γ cX0_timeFrom 8 RX0 (some .int)) {G : Nat → Nat} {T : XS} (l3 : Int32) (l6 : Int32) {v : Int32} : x_timeFrom_b96 N T l3 l6 = some v → J κ Γ (1, 0, 0, (fun u w' => u = some (.int v) ∧ w' = wX κ G T)) 8 (wX κ G T) 0 0 96 [some (.ref (G 0)), none, none, some (.int l3), none, none, some (.int l6), none] [] := by
  intro  h
  rw [x_timeFrom_b96] at h
  refine j_iload C dX0_timeFrom_96 rfl ?_
  refine j_iload_n C dX0_timeFrom_98 rfl rfl ?_
  refine j_icmp_gt C dX0_timeFrom_99 (tgt := 107) (by decide) (fun c => ?_) (fun c => ?_)
  · replace h := ip c h
    refine j_bipush C (v := (-2)) dX0_timeFrom_107 rfl ?_
    obtain rfl := sp1 h
    exact j_iret C dX0_timeFrom_109 (Nat.le_of_ble_eq_true rfl) (Nat.le_of_ble_eq_true rfl) ⟨rfl, rfl⟩
  replace h := im c h
  refine j_iload C dX0_timeFrom_102 rfl ?_
  refine j_goto C dX0_timeFrom_104 (tgt := 109) (by decide) ?_
  obtain rfl := sp1 h
  exact j_iret C dX0_timeFrom_109 (Nat.le_of_ble_eq_true rfl) (Nat.le_of_ble_eq_true rfl) ⟨rfl, rfl⟩
def x_timeFrom_b16 (N : Nat) (T : XS) (l1 : Int32) (l3 : Int32) (l4 : Int32) (l5 : Int32) : Nat → Int32 → Int32 → Option Int32
  | 0, _, _ => none
  | n + 1, l6, l7 =>
    (if (T.1 17) ≤ l7 then
    x_timeFrom_b96 N T l3 l6
    else
    (if l3 < l6 then
    x_timeFrom_b96 N T l3 l6
    else
    chk 4000 l7 (
    (if (T.2.1 14 l7.toNatClampNeg) = l1 then
    chk 4000 l7 (
    (if l6 < ((T.2.1 15 l7.toNatClampNeg) + l5) then
    chk 4000 l7 (
    (if (T.2.1 15 l7.toNatClampNeg) < (l6 + l4) then
    chk 4000 l7 (
    nm ((T.2.1 15 l7.toNatClampNeg) + l5) fun x6 =>
    nm (l7 + 1) fun x7 =>
    x_timeFrom_b16 N T l1 l3 l4 l5 n x6 x7)
    else
    some l6))
    else
    nm (l7 + 1) fun x8 =>
    x_timeFrom_b16 N T l1 l3 l4 l5 n l6 x8))
    else
    nm (l7 + 1) fun x2 =>
    x_timeFrom_b16 N T l1 l3 l4 l5 n l6 x2))))
theorem wx_timeFrom_b16 {κ : jK} (hκ : jX κ) (N : Nat) {Γ : jG} (C : jC κ Γ cX0_timeFrom 8 RX0 (some .int)) {G : Nat → Nat} {T : XS} (l1 : Int32) (l3 : Int32) (l4 : Int32) (l5 : Int32) {v : Int32} : ∀ (n : Nat) (l6 : Int32) (l7 : Int32), x_timeFrom_b16 N T l1 l3 l4 l5 n l6 l7 = some v → J κ Γ (1, 0, 0, (fun u w' => u = some (.int v) ∧ w' = wX κ G T)) 8 (wX κ G T) 0 0 16 [some (.ref (G 0)), some (.int l1), none, some (.int l3), some (.int l4), some (.int l5), some (.int l6), some (.int l7)] [] := by
  intro n
  induction n with
  | zero => intro _ _ h; cases h
  | succ n ih =>
    intro l6 l7 h
    rw [x_timeFrom_b16] at h
    refine j_iload C dX0_timeFrom_16 rfl ?_
    refine j_aload_n C dX0_timeFrom_18 rfl rfl ?_
    refine jx_geti hκ C 17 (by decide) rfl q206 dX0_timeFrom_19 ?_
    refine j_icmp_ge C dX0_timeFrom_22 (tgt := 96) (by decide) (fun c => ?_) (fun c => ?_)
    · replace h := ip c h
      exact j_sub (wx_timeFrom_b96 hκ N C _ _ h) ⟨rfl, ⟨rfl, ⟨rfl, trivial⟩⟩⟩
    replace h := im c h
    refine j_iload C dX0_timeFrom_25 rfl ?_
    refine j_iload_n C dX0_timeFrom_27 rfl rfl ?_
    refine j_icmp_gt C dX0_timeFrom_28 (tgt := 96) (by decide) (fun c => ?_) (fun c => ?_)
    · replace h := ip c h
      exact j_sub (wx_timeFrom_b96 hκ N C _ _ h) ⟨rfl, ⟨rfl, ⟨rfl, trivial⟩⟩⟩
    replace h := im c h
    refine j_aload_n C dX0_timeFrom_31 rfl rfl ?_
    refine jx_geta hκ C 14 (by decide) rfl rfl q203 dX0_timeFrom_32 ?_
    refine j_iload C dX0_timeFrom_35 rfl ?_
    obtain ⟨b1, h⟩ := chk_some h
    refine jx_iald hκ C 14 rfl rfl b1 dX0_timeFrom_37 ?_
    refine j_iload_n C dX0_timeFrom_38 rfl rfl ?_
    refine j_icmp_ne C dX0_timeFrom_39 (tgt := 90) (by decide) (fun c => ?_) (fun c => ?_)
    · replace h := im c h
      refine j_iincN C h dX0_timeFrom_90 rfl rfl (by decide) rfl (fun x2 h => ?_)
      refine j_goto C dX0_timeFrom_93 (tgt := 16) (by decide) ?_
      exact j_sub (ih _ _ h) ⟨rfl, ⟨rfl, ⟨rfl, ⟨rfl, ⟨rfl, ⟨rfl, ⟨rfl, trivial⟩⟩⟩⟩⟩⟩⟩
    replace h := ip c h
    refine j_aload_n C dX0_timeFrom_42 rfl rfl ?_
    refine jx_geta hκ C 15 (by decide) rfl rfl q204 dX0_timeFrom_43 ?_
    refine j_iload C dX0_timeFrom_46 rfl ?_
    obtain ⟨b3, h⟩ := chk_some h
    refine jx_iald hκ C 15 rfl rfl b3 dX0_timeFrom_48 ?_
    refine j_iload C dX0_timeFrom_49 rfl ?_
    refine j_iadd C dX0_timeFrom_51 ?_
    refine j_iload C dX0_timeFrom_52 rfl ?_
    refine j_icmp_gt C dX0_timeFrom_54 (tgt := 60) (by decide) (fun c => ?_) (fun c => ?_)
    · replace h := ip c h
      refine j_aload_n C dX0_timeFrom_60 rfl rfl ?_
      refine jx_geta hκ C 15 (by decide) rfl rfl q204 dX0_timeFrom_61 ?_
      refine j_iload C dX0_timeFrom_64 rfl ?_
      obtain ⟨b4, h⟩ := chk_some h
      refine jx_iald hκ C 15 rfl rfl b4 dX0_timeFrom_66 ?_
      refine j_iload C dX0_timeFrom_67 rfl ?_
      refine j_iload C dX0_timeFrom_69 rfl ?_
      refine j_iadd C dX0_timeFrom_71 ?_
      refine j_icmp_lt C dX0_timeFrom_72 (tgt := 78) (by decide) (fun c => ?_) (fun c => ?_)
      · replace h := ip c h
        refine j_aload_n C dX0_timeFrom_78 rfl rfl ?_
        refine jx_geta hκ C 15 (by decide) rfl rfl q204 dX0_timeFrom_79 ?_
        refine j_iload C dX0_timeFrom_82 rfl ?_
        obtain ⟨b5, h⟩ := chk_some h
        refine jx_iald hκ C 15 rfl rfl b5 dX0_timeFrom_84 ?_
        refine j_iload C dX0_timeFrom_85 rfl ?_
        refine j_iadd C dX0_timeFrom_87 ?_
        refine j_nmI h (fun x6 h => ?_)
        refine j_istore C dX0_timeFrom_88 (by decide) rfl ?_
        refine j_iincN C h dX0_timeFrom_90 rfl rfl (by decide) rfl (fun x7 h => ?_)
        refine j_goto C dX0_timeFrom_93 (tgt := 16) (by decide) ?_
        exact j_sub (ih _ _ h) ⟨rfl, ⟨rfl, ⟨rfl, ⟨rfl, ⟨rfl, ⟨rfl, ⟨rfl, trivial⟩⟩⟩⟩⟩⟩⟩
      replace h := im c h
      refine j_iload C dX0_timeFrom_75 rfl ?_
      obtain rfl := sp1 h
      exact j_iret C dX0_timeFrom_77 (Nat.le_of_ble_eq_true rfl) (Nat.le_of_ble_eq_true rfl) ⟨rfl, rfl⟩
    replace h := im c h
    refine j_goto C dX0_timeFrom_57 (tgt := 90) (by decide) ?_
    refine j_iincN C h dX0_timeFrom_90 rfl rfl (by decide) rfl (fun x8 h => ?_)
    refine j_goto C dX0_timeFrom_93 (tgt := 16) (by decide) ?_
    exact j_sub (ih _ _ h) ⟨rfl, ⟨rfl, ⟨rfl, ⟨rfl, ⟨rfl, ⟨rfl, ⟨rfl, trivial⟩⟩⟩⟩⟩⟩⟩
def x_timeFrom (N : Nat) (T : XS) (p1 : Int32) (p2 : Int32) (p3 : Int32) (p4 : Int32) : Option Int32 :=
  nm (jmax 1 (T.1 5)) fun x1 =>
  x_timeFrom_b16 N T p1 p3 p4 x1 N p2 0
theorem mt_x_timeFrom {κ : jK} (hκ : jX κ) (N : Nat) (G : Nat → Nat) {T : XS} {p1 : Int32} {p2 : Int32} {p3 : Int32} {p4 : Int32} {v : Int32} (h : x_timeFrom N T p1 p2 p3 p4 = some v) : jM κ yX0_timeFrom (ws_ yX0_timeFrom cX0_timeFrom 8 (some .int)) 1 0 0 [.ref (G 0), .int p1, .int p2, .int p3, .int p4] (wX κ G T) (fun u w' => u = some (.int v) ∧ w' = wX κ G T) := by
  rw [x_timeFrom] at h
  refine jM.of (by decide) rfl (Nat.le_of_ble_eq_true rfl) fun Γ C _ => ?_
  show J κ Γ (1, 0, 0, (fun u w' => u = some (.int v) ∧ w' = wX κ G T)) 8 (wX κ G T) 0 0 0 [some (.ref (G 0)), some (.int p1), some (.int p2), some (.int p3), some (.int p4), none, none, none] []
  refine j_iconst C (v := 1) dX0_timeFrom_0 rfl ?_
  refine j_aload_n C dX0_timeFrom_1 rfl rfl ?_
  refine jx_geti hκ C 5 (by decide) rfl q192 dX0_timeFrom_2 ?_
  refine j_mmax C dX0_timeFrom_5 q902 q695 q129 q696 (Nat.le_of_ble_eq_true rfl) (Nat.le_of_ble_eq_true rfl) (Nat.le_of_ble_eq_true rfl) (Nat.le_of_ble_eq_true rfl) ?_
  refine j_nmI h (fun x1 h => ?_)
  refine j_istore C dX0_timeFrom_8 (by decide) rfl ?_
  refine j_iload_n C dX0_timeFrom_10 rfl rfl ?_
  refine j_istore C dX0_timeFrom_11 (by decide) rfl ?_
  refine j_iconst C (v := 0) dX0_timeFrom_13 rfl ?_
  refine j_istore C dX0_timeFrom_14 (by decide) rfl ?_
  exact j_sub (wx_timeFrom_b16 hκ N C _ _ _ _ N _ _ h) ⟨rfl, ⟨rfl, ⟨rfl, ⟨rfl, ⟨rfl, ⟨rfl, ⟨rfl, trivial⟩⟩⟩⟩⟩⟩⟩
/-! thief -/
def x_thief (N : Nat) (T : XS) (p1 : Int32) (p2 : Int32) (p3 : Int32) (p4 : Int32) : Option (Int32 × XS) :=
  (x_isShelf p1).bind fun v2 =>
  (if (b2i v2) = 0 then
  some ((-1), T)
  else
  (x_isPost T p2).bind fun v4 =>
  (if (b2i v4) = 0 then
  some ((-1), T)
  else
  (x_isMinute p3).bind fun v6 =>
  (if (b2i v6) = 0 then
  some ((-1), T)
  else
  (x_areNeeded p4).bind fun v8 =>
  (if (b2i v8) = 0 then
  some ((-1), T)
  else
  b2 (x_layForth N T p1) fun v10 T11 =>
  (if 0 ≤ v10 then
  (x_timeFrom N T11 p2 p3 999 p4).bind fun v13 =>
  some (v13, T11)
  else
  some (v10, T11))))))
theorem mt_x_thief {κ : jK} (hκ : jX κ) (N : Nat) (G : Nat → Nat) {T : XS} {p1 : Int32} {p2 : Int32} {p3 : Int32} {p4 : Int32} {v : Int32} {T' : XS} (h : x_thief N T p1 p2 p3 p4 = some (v, T')) : jM κ yX0_thief (ws_ yX0_thief cX0_thief 6 (some .int)) 232 16 1024 [.ref (G 0), .int p1, .int p2, .int p3, .int p4] (wX κ G T) (fun u w' => u = some (.int v) ∧ w' = wX κ G T') := by
  rw [x_thief] at h
  refine jM.of (by decide) rfl (Nat.le_of_ble_eq_true rfl) fun Γ C _ => ?_
  show J κ Γ (232, 16, 1024, (fun u w' => u = some (.int v) ∧ w' = wX κ G T')) 6 (wX κ G T) 0 0 0 [some (.ref (G 0)), some (.int p1), some (.int p2), some (.int p3), some (.int p4), none] []
  refine j_iload_n C dX0_thief_0 rfl rfl ?_
  obtain ⟨v2, e1, h⟩ := ob h
  refine j_Si hκ.1.1 C (mt_x_isShelf hκ e1) hG_x_isShelf hy_x_isShelf rfl dX0_thief_1 (jfit.of (Nat.le_of_ble_eq_true rfl) (by decide) (Nat.le_of_ble_eq_true rfl) (Nat.le_of_ble_eq_true rfl) (Nat.le_of_ble_eq_true rfl)) rfl ?_
  refine j_if_eq C dX0_thief_4 (tgt := 30) (by decide) (fun c => ?_) (fun c => ?_)
  · replace h := ip c h
    refine j_iconst C (v := (-1)) dX0_thief_30 rfl ?_
    obtain ⟨rfl, rfl⟩ := sp2 h
    exact j_iret C dX0_thief_31 (Nat.le_of_ble_eq_true rfl) (Nat.le_of_ble_eq_true rfl) ⟨rfl, rfl⟩
  replace h := im c h
  refine j_aload_n C dX0_thief_7 rfl rfl ?_
  refine j_iload_n C dX0_thief_8 rfl rfl ?_
  obtain ⟨v4, e3, h⟩ := ob h
  refine jx_Vi hκ C (mt_x_isPost hκ G e3) hG_x_isPost hy_x_isPost rfl rfl dX0_thief_9 (jfit.of (Nat.le_of_ble_eq_true rfl) (by decide) (Nat.le_of_ble_eq_true rfl) (Nat.le_of_ble_eq_true rfl) (Nat.le_of_ble_eq_true rfl)) rfl ?_
  refine j_if_eq C dX0_thief_12 (tgt := 30) (by decide) (fun c => ?_) (fun c => ?_)
  · replace h := ip c h
    refine j_iconst C (v := (-1)) dX0_thief_30 rfl ?_
    obtain ⟨rfl, rfl⟩ := sp2 h
    exact j_iret C dX0_thief_31 (Nat.le_of_ble_eq_true rfl) (Nat.le_of_ble_eq_true rfl) ⟨rfl, rfl⟩
  replace h := im c h
  refine j_iload_n C dX0_thief_15 rfl rfl ?_
  obtain ⟨v6, e5, h⟩ := ob h
  refine j_Si hκ.1.1 C (mt_x_isMinute hκ e5) hG_x_isMinute hy_x_isMinute rfl dX0_thief_16 (jfit.of (Nat.le_of_ble_eq_true rfl) (by decide) (Nat.le_of_ble_eq_true rfl) (Nat.le_of_ble_eq_true rfl) (Nat.le_of_ble_eq_true rfl)) rfl ?_
  refine j_if_eq C dX0_thief_19 (tgt := 30) (by decide) (fun c => ?_) (fun c => ?_)
  · replace h := ip c h
    refine j_iconst C (v := (-1)) dX0_thief_30 rfl ?_
    obtain ⟨rfl, rfl⟩ := sp2 h
    exact j_iret C dX0_thief_31 (Nat.le_of_ble_eq_true rfl) (Nat.le_of_ble_eq_true rfl) ⟨rfl, rfl⟩
  replace h := im c h
  refine j_iload C dX0_thief_22 rfl ?_
  obtain ⟨v8, e7, h⟩ := ob h
  refine j_Si hκ.1.1 C (mt_x_areNeeded hκ e7) hG_x_areNeeded hy_x_areNeeded rfl dX0_thief_24 (jfit.of (Nat.le_of_ble_eq_true rfl) (by decide) (Nat.le_of_ble_eq_true rfl) (Nat.le_of_ble_eq_true rfl) (Nat.le_of_ble_eq_true rfl)) rfl ?_
  refine j_if_ne C dX0_thief_27 (tgt := 32) (by decide) (fun c => ?_) (fun c => ?_)
  · replace h := im c h
    refine j_aload_n C dX0_thief_32 rfl rfl ?_
    refine j_iload_n C dX0_thief_33 rfl rfl ?_
    obtain ⟨v10, T11, e9, h⟩ := ob2 h
    refine jx_Wi hκ C (mt_x_layForth hκ N G e9) hG_x_layForth hy_x_layForth rfl rfl dX0_thief_34 ⟨(Nat.le_of_ble_eq_true rfl), by decide, Nat.le_of_ble_eq_true rfl, Nat.le_of_ble_eq_true rfl, Nat.le_of_ble_eq_true rfl⟩ rfl ?_
    refine j_istore C dX0_thief_37 (by decide) rfl ?_
    refine j_iload C dX0_thief_39 rfl ?_
    refine j_if_ge C dX0_thief_41 (tgt := 49) (by decide) (fun c => ?_) (fun c => ?_)
    · replace h := ip c h
      refine j_aload_n C dX0_thief_49 rfl rfl ?_
      refine j_iload_n C dX0_thief_50 rfl rfl ?_
      refine j_iload_n C dX0_thief_51 rfl rfl ?_
      refine j_sipush C (v := 999) dX0_thief_52 rfl ?_
      refine j_iload C dX0_thief_55 rfl ?_
      obtain ⟨v13, e12, h⟩ := ob h
      refine jx_Vi hκ C (mt_x_timeFrom hκ N G e12) hG_x_timeFrom hy_x_timeFrom rfl rfl dX0_thief_57 (jfit.of (Nat.le_of_ble_eq_true rfl) (by decide) (Nat.le_of_ble_eq_true rfl) (Nat.le_of_ble_eq_true rfl) (Nat.le_of_ble_eq_true rfl)) rfl ?_
      obtain ⟨rfl, rfl⟩ := sp2 h
      exact j_iret C dX0_thief_60 (Nat.le_of_ble_eq_true rfl) (Nat.le_of_ble_eq_true rfl) ⟨rfl, rfl⟩
    replace h := im c h
    refine j_iload C dX0_thief_44 rfl ?_
    refine j_goto C dX0_thief_46 (tgt := 60) (by decide) ?_
    obtain ⟨rfl, rfl⟩ := sp2 h
    exact j_iret C dX0_thief_60 (Nat.le_of_ble_eq_true rfl) (Nat.le_of_ble_eq_true rfl) ⟨rfl, rfl⟩
  replace h := ip c h
  refine j_iconst C (v := (-1)) dX0_thief_30 rfl ?_
  obtain ⟨rfl, rfl⟩ := sp2 h
  exact j_iret C dX0_thief_31 (Nat.le_of_ble_eq_true rfl) (Nat.le_of_ble_eq_true rfl) ⟨rfl, rfl⟩
/-! safe -/
def x_safe_b34 (N : Nat) (l2 : Int32) : Nat → XS → Int32 → Int32 → Option (Int32 × XS)
  | 0, _, _, _ => none
  | n + 1, T, l4, l5 =>
    (if (T.1 1) ≤ l5 then
    some (l4, T)
    else
    (x_timeFrom N T l5 0 999 l2).bind fun v2 =>
    (if v2 = (-2) then
    nm (l4 ||| (1 <<< (l5 &&& 31))) fun x4 =>
    nm (l5 + 1) fun x5 =>
    x_safe_b34 N l2 n T x4 x5
    else
    nm (l5 + 1) fun x3 =>
    x_safe_b34 N l2 n T l4 x3))
theorem wx_safe_b34 {κ : jK} (hκ : jX κ) (N : Nat) {Γ : jG} (C : jC κ Γ cX0_safe 6 RX0 (some .int)) {G : Nat → Nat} (l2 : Int32) {v : Int32} {T' : XS} : ∀ (n : Nat) (T : XS) (l4 : Int32) (l5 : Int32), x_safe_b34 N l2 n T l4 l5 = some (v, T') → J κ Γ (232, 16, 1024, (fun u w' => u = some (.int v) ∧ w' = wX κ G T')) 6 (wX κ G T) 16 1024 34 [some (.ref (G 0)), none, some (.int l2), none, some (.int l4), some (.int l5)] [] := by
  intro n
  induction n with
  | zero => intro _ _ _ h; cases h
  | succ n ih =>
    intro T l4 l5 h
    rw [x_safe_b34] at h
    refine j_iload C dX0_safe_34 rfl ?_
    refine j_aload_n C dX0_safe_36 rfl rfl ?_
    refine jx_geti hκ C 1 (by decide) rfl q188 dX0_safe_37 ?_
    refine j_icmp_ge C dX0_safe_40 (tgt := 74) (by decide) (fun c => ?_) (fun c => ?_)
    · replace h := ip c h
      refine j_iload C dX0_safe_74 rfl ?_
      obtain ⟨rfl, rfl⟩ := sp2 h
      exact j_iret C dX0_safe_76 (Nat.le_of_ble_eq_true rfl) (Nat.le_of_ble_eq_true rfl) ⟨rfl, rfl⟩
    replace h := im c h
    refine j_aload_n C dX0_safe_43 rfl rfl ?_
    refine j_iload C dX0_safe_44 rfl ?_
    refine j_iconst C (v := 0) dX0_safe_46 rfl ?_
    refine j_sipush C (v := 999) dX0_safe_47 rfl ?_
    refine j_iload_n C dX0_safe_50 rfl rfl ?_
    obtain ⟨v2, e1, h⟩ := ob h
    refine jx_Vi hκ C (mt_x_timeFrom hκ N G e1) hG_x_timeFrom hy_x_timeFrom rfl rfl dX0_safe_51 (jfit.of (Nat.le_of_ble_eq_true rfl) (by decide) (Nat.le_of_ble_eq_true rfl) (Nat.le_of_ble_eq_true rfl) (Nat.le_of_ble_eq_true rfl)) rfl ?_
    refine j_bipush C (v := (-2)) dX0_safe_54 rfl ?_
    refine j_icmp_ne C dX0_safe_56 (tgt := 68) (by decide) (fun c => ?_) (fun c => ?_)
    · replace h := im c h
      refine j_iincN C h dX0_safe_68 rfl rfl (by decide) rfl (fun x3 h => ?_)
      refine j_goto C dX0_safe_71 (tgt := 34) (by decide) ?_
      exact j_sub (ih _ _ _ h) ⟨rfl, ⟨rfl, ⟨rfl, ⟨rfl, trivial⟩⟩⟩⟩
    replace h := ip c h
    refine j_iload C dX0_safe_59 rfl ?_
    refine j_iconst C (v := 1) dX0_safe_61 rfl ?_
    refine j_iload C dX0_safe_62 rfl ?_
    refine j_ishl C dX0_safe_64 ?_
    refine j_ior C dX0_safe_65 ?_
    refine j_nmI h (fun x4 h => ?_)
    refine j_istore C dX0_safe_66 (by decide) rfl ?_
    refine j_iincN C h dX0_safe_68 rfl rfl (by decide) rfl (fun x5 h => ?_)
    refine j_goto C dX0_safe_71 (tgt := 34) (by decide) ?_
    exact j_sub (ih _ _ _ h) ⟨rfl, ⟨rfl, ⟨rfl, ⟨rfl, trivial⟩⟩⟩⟩
def x_safe (N : Nat) (T : XS) (p1 : Int32) (p2 : Int32) : Option (Int32 × XS) :=
  (x_isShelf p1).bind fun v2 =>
  (if (b2i v2) = 0 then
  some ((-1), T)
  else
  (x_areNeeded p2).bind fun v4 =>
  (if (b2i v4) = 0 then
  some ((-1), T)
  else
  b2 (x_layForth N T p1) fun v6 T7 =>
  (if 0 ≤ v6 then
  x_safe_b34 N p2 N T7 0 0
  else
  some (v6, T7))))
theorem mt_x_safe {κ : jK} (hκ : jX κ) (N : Nat) (G : Nat → Nat) {T : XS} {p1 : Int32} {p2 : Int32} {v : Int32} {T' : XS} (h : x_safe N T p1 p2 = some (v, T')) : jM κ yX0_safe (ws_ yX0_safe cX0_safe 6 (some .int)) 232 16 1024 [.ref (G 0), .int p1, .int p2] (wX κ G T) (fun u w' => u = some (.int v) ∧ w' = wX κ G T') := by
  rw [x_safe] at h
  refine jM.of (by decide) rfl (Nat.le_of_ble_eq_true rfl) fun Γ C _ => ?_
  show J κ Γ (232, 16, 1024, (fun u w' => u = some (.int v) ∧ w' = wX κ G T')) 6 (wX κ G T) 0 0 0 [some (.ref (G 0)), some (.int p1), some (.int p2), none, none, none] []
  refine j_iload_n C dX0_safe_0 rfl rfl ?_
  obtain ⟨v2, e1, h⟩ := ob h
  refine j_Si hκ.1.1 C (mt_x_isShelf hκ e1) hG_x_isShelf hy_x_isShelf rfl dX0_safe_1 (jfit.of (Nat.le_of_ble_eq_true rfl) (by decide) (Nat.le_of_ble_eq_true rfl) (Nat.le_of_ble_eq_true rfl) (Nat.le_of_ble_eq_true rfl)) rfl ?_
  refine j_if_eq C dX0_safe_4 (tgt := 14) (by decide) (fun c => ?_) (fun c => ?_)
  · replace h := ip c h
    refine j_iconst C (v := (-1)) dX0_safe_14 rfl ?_
    obtain ⟨rfl, rfl⟩ := sp2 h
    exact j_iret C dX0_safe_15 (Nat.le_of_ble_eq_true rfl) (Nat.le_of_ble_eq_true rfl) ⟨rfl, rfl⟩
  replace h := im c h
  refine j_iload_n C dX0_safe_7 rfl rfl ?_
  obtain ⟨v4, e3, h⟩ := ob h
  refine j_Si hκ.1.1 C (mt_x_areNeeded hκ e3) hG_x_areNeeded hy_x_areNeeded rfl dX0_safe_8 (jfit.of (Nat.le_of_ble_eq_true rfl) (by decide) (Nat.le_of_ble_eq_true rfl) (Nat.le_of_ble_eq_true rfl) (Nat.le_of_ble_eq_true rfl)) rfl ?_
  refine j_if_ne C dX0_safe_11 (tgt := 16) (by decide) (fun c => ?_) (fun c => ?_)
  · replace h := im c h
    refine j_aload_n C dX0_safe_16 rfl rfl ?_
    refine j_iload_n C dX0_safe_17 rfl rfl ?_
    obtain ⟨v6, T7, e5, h⟩ := ob2 h
    refine jx_Wi hκ C (mt_x_layForth hκ N G e5) hG_x_layForth hy_x_layForth rfl rfl dX0_safe_18 ⟨(Nat.le_of_ble_eq_true rfl), by decide, Nat.le_of_ble_eq_true rfl, Nat.le_of_ble_eq_true rfl, Nat.le_of_ble_eq_true rfl⟩ rfl ?_
    refine j_istore_n C dX0_safe_21 rfl (by decide) rfl ?_
    refine j_iload_n C dX0_safe_22 rfl rfl ?_
    refine j_if_ge C dX0_safe_23 (tgt := 28) (by decide) (fun c => ?_) (fun c => ?_)
    · replace h := ip c h
      refine j_iconst C (v := 0) dX0_safe_28 rfl ?_
      refine j_istore C dX0_safe_29 (by decide) rfl ?_
      refine j_iconst C (v := 0) dX0_safe_31 rfl ?_
      refine j_istore C dX0_safe_32 (by decide) rfl ?_
      exact j_sub (wx_safe_b34 hκ N C _ N _ _ _ h) ⟨rfl, ⟨rfl, ⟨rfl, ⟨rfl, trivial⟩⟩⟩⟩
    replace h := im c h
    refine j_iload_n C dX0_safe_26 rfl rfl ?_
    obtain ⟨rfl, rfl⟩ := sp2 h
    exact j_iret C dX0_safe_27 (Nat.le_of_ble_eq_true rfl) (Nat.le_of_ble_eq_true rfl) ⟨rfl, rfl⟩
  replace h := ip c h
  refine j_iconst C (v := (-1)) dX0_safe_14 rfl ?_
  obtain ⟨rfl, rfl⟩ := sp2 h
  exact j_iret C dX0_safe_15 (Nat.le_of_ble_eq_true rfl) (Nat.le_of_ble_eq_true rfl) ⟨rfl, rfl⟩
/-! layMine -/
def x_layMine_b7 (N : Nat) (l1 : Int32) : Nat → XS → Int32 → Option XS
  | 0, _, _ => none
  | n + 1, T, l2 =>
    (if (T.1 17) ≤ l2 then
    some T
    else
    chk 4000 l2 (
    (if (T.2.1 14 l2.toNatClampNeg) = l1 then
    chk 4000 l2 (
    (if (T.2.1 15 l2.toNatClampNeg) ≤ 999 then
    chk 4000 l2 (
    chk 4000 (T.1 22) (
    nm (xA T 21 (T.1 22).toNatClampNeg (T.2.1 15 l2.toNatClampNeg)) fun T5 =>
    nm (xI T5 22 ((T5.1 22) + 1)) fun T7 =>
    nm (l2 + 1) fun x8 =>
    x_layMine_b7 N l1 n T7 x8))
    else
    nm (l2 + 1) fun x9 =>
    x_layMine_b7 N l1 n T x9))
    else
    nm (l2 + 1) fun x2 =>
    x_layMine_b7 N l1 n T x2)))
theorem wx_layMine_b7 {κ : jK} (hκ : jX κ) (N : Nat) {Γ : jG} (C : jC κ Γ cX0_layMine 3 RX0 none) {G : Nat → Nat} (l1 : Int32) {T' : XS} : ∀ (n : Nat) (T : XS) (l2 : Int32), x_layMine_b7 N l1 n T l2 = some T' → J κ Γ (0, 0, 0, (fun u w' => u = none ∧ w' = wX κ G T')) 3 (wX κ G T) 0 0 7 [some (.ref (G 0)), some (.int l1), some (.int l2)] [] := by
  intro n
  induction n with
  | zero => intro _ _ h; cases h
  | succ n ih =>
    intro T l2 h
    rw [x_layMine_b7] at h
    refine j_iload_n C dX0_layMine_7 rfl rfl ?_
    refine j_aload_n C dX0_layMine_8 rfl rfl ?_
    refine jx_geti hκ C 17 (by decide) rfl q206 dX0_layMine_9 ?_
    refine j_icmp_ge C dX0_layMine_12 (tgt := 71) (by decide) (fun c => ?_) (fun c => ?_)
    · replace h := ip c h
      obtain rfl := sp1 h
      exact j_vret C dX0_layMine_71 (Nat.le_of_ble_eq_true rfl) (Nat.le_of_ble_eq_true rfl) ⟨rfl, rfl⟩
    replace h := im c h
    refine j_aload_n C dX0_layMine_15 rfl rfl ?_
    refine jx_geta hκ C 14 (by decide) rfl rfl q203 dX0_layMine_16 ?_
    refine j_iload_n C dX0_layMine_19 rfl rfl ?_
    obtain ⟨b1, h⟩ := chk_some h
    refine jx_iald hκ C 14 rfl rfl b1 dX0_layMine_20 ?_
    refine j_iload_n C dX0_layMine_21 rfl rfl ?_
    refine j_icmp_ne C dX0_layMine_22 (tgt := 65) (by decide) (fun c => ?_) (fun c => ?_)
    · replace h := im c h
      refine j_iincN C h dX0_layMine_65 rfl rfl (by decide) rfl (fun x2 h => ?_)
      refine j_goto C dX0_layMine_68 (tgt := 7) (by decide) ?_
      exact j_sub (ih _ _ h) ⟨rfl, ⟨rfl, ⟨rfl, trivial⟩⟩⟩
    replace h := ip c h
    refine j_aload_n C dX0_layMine_25 rfl rfl ?_
    refine jx_geta hκ C 15 (by decide) rfl rfl q204 dX0_layMine_26 ?_
    refine j_iload_n C dX0_layMine_29 rfl rfl ?_
    obtain ⟨b3, h⟩ := chk_some h
    refine jx_iald hκ C 15 rfl rfl b3 dX0_layMine_30 ?_
    refine j_sipush C (v := 999) dX0_layMine_31 rfl ?_
    refine j_icmp_le C dX0_layMine_34 (tgt := 40) (by decide) (fun c => ?_) (fun c => ?_)
    · replace h := ip c h
      refine j_aload_n C dX0_layMine_40 rfl rfl ?_
      refine jx_geta hκ C 21 (by decide) rfl rfl q210 dX0_layMine_41 ?_
      refine j_aload_n C dX0_layMine_44 rfl rfl ?_
      refine jx_geti hκ C 22 (by decide) rfl q211 dX0_layMine_45 ?_
      refine j_aload_n C dX0_layMine_48 rfl rfl ?_
      refine jx_geta hκ C 15 (by decide) rfl rfl q204 dX0_layMine_49 ?_
      refine j_iload_n C dX0_layMine_52 rfl rfl ?_
      obtain ⟨b4, h⟩ := chk_some h
      refine jx_iald hκ C 15 rfl rfl b4 dX0_layMine_53 ?_
      obtain ⟨b6, h⟩ := chk_some h
      refine jx_iast hκ C 21 rfl rfl b6 dX0_layMine_54 ?_
      refine jx_nmT h (fun T5 h => ?_)
      refine j_aload_n C dX0_layMine_55 rfl rfl ?_
      refine j_dup C dX0_layMine_56 rfl ?_
      refine jx_geti hκ C 22 (by decide) rfl q211 dX0_layMine_57 ?_
      refine j_iconst C (v := 1) dX0_layMine_60 rfl ?_
      refine j_iadd C dX0_layMine_61 ?_
      refine jx_puti hκ C 22 (by decide) rfl rfl rfl q211 dX0_layMine_62 ?_
      refine jx_nmT h (fun T7 h => ?_)
      refine j_iincN C h dX0_layMine_65 rfl rfl (by decide) rfl (fun x8 h => ?_)
      refine j_goto C dX0_layMine_68 (tgt := 7) (by decide) ?_
      exact j_sub (ih _ _ h) ⟨rfl, ⟨rfl, ⟨rfl, trivial⟩⟩⟩
    replace h := im c h
    refine j_goto C dX0_layMine_37 (tgt := 65) (by decide) ?_
    refine j_iincN C h dX0_layMine_65 rfl rfl (by decide) rfl (fun x9 h => ?_)
    refine j_goto C dX0_layMine_68 (tgt := 7) (by decide) ?_
    exact j_sub (ih _ _ h) ⟨rfl, ⟨rfl, ⟨rfl, trivial⟩⟩⟩
def x_layMine (N : Nat) (T : XS) (p1 : Int32) : Option XS :=
  nm (xI T 22 0) fun T1 =>
  x_layMine_b7 N p1 N T1 0
theorem mt_x_layMine {κ : jK} (hκ : jX κ) (N : Nat) (G : Nat → Nat) {T : XS} {p1 : Int32} {T' : XS} (h : x_layMine N T p1 = some T') : jM κ yX0_layMine (ws_ yX0_layMine cX0_layMine 3 none) 0 0 0 [.ref (G 0), .int p1] (wX κ G T) (fun u w' => u = none ∧ w' = wX κ G T') := by
  rw [x_layMine] at h
  refine jM.of (by decide) rfl (Nat.le_of_ble_eq_true rfl) fun Γ C _ => ?_
  show J κ Γ (0, 0, 0, (fun u w' => u = none ∧ w' = wX κ G T')) 3 (wX κ G T) 0 0 0 [some (.ref (G 0)), some (.int p1), none] []
  refine j_aload_n C dX0_layMine_0 rfl rfl ?_
  refine j_iconst C (v := 0) dX0_layMine_1 rfl ?_
  refine jx_puti hκ C 22 (by decide) rfl rfl rfl q211 dX0_layMine_2 ?_
  refine jx_nmT h (fun T1 h => ?_)
  refine j_iconst C (v := 0) dX0_layMine_5 rfl ?_
  refine j_istore_n C dX0_layMine_6 rfl (by decide) rfl ?_
  exact j_sub (wx_layMine_b7 hκ N C _ N _ _ h) ⟨rfl, ⟨rfl, ⟨rfl, trivial⟩⟩⟩
/-! gapOfTwo -/
def x_gapOfTwo_b169 (N : Nat) (l2 : Int32) (l3 : Int32) (l4 : Int32) (l5 : Int32) (l6 : Int32) (l8 : Int32) (k41 : XS → Int32 → Int32 → Int32 → Int32 → Option (Int32 × XS)) (T : XS) : Option (Int32 × XS) :=
  (if l5 < 0 then
  k41 T l3 l4 l8 l6
  else
  nm (jmax l6 (l8 - l5)) fun x1 =>
  k41 T l3 l4 l8 x1)
theorem wx_gapOfTwo_b169 {κ : jK} (hκ : jX κ) (N : Nat) {Γ : jG} (C : jC κ Γ cX0_gapOfTwo 9 RX0 (some .int)) {G : Nat → Nat} (l2 : Int32) (l3 : Int32) (l4 : Int32) (l5 : Int32) (l6 : Int32) (l8 : Int32) (k41 : XS → Int32 → Int32 → Int32 → Int32 → Option (Int32 × XS)) {v : Int32} {T' : XS} (hk41 : ∀ (T : XS) (l3 : Int32) (l4 : Int32) (l5 : Int32) (l6 : Int32), k41 T l3 l4 l5 l6 = some (v, T') → J κ Γ (1, 0, 0, (fun u w' => u = some (.int v) ∧ w' = wX κ G T')) 9 (wX κ G T) 0 0 41 [some (.ref (G 0)), none, some (.int l2), some (.int l3), some (.int l4), some (.int l5), some (.int l6), none, none] []) : ∀ (T : XS), x_gapOfTwo_b169 N l2 l3 l4 l5 l6 l8 k41 T = some (v, T') → J κ Γ (1, 0, 0, (fun u w' => u = some (.int v) ∧ w' = wX κ G T')) 9 (wX κ G T) 0 0 169 [some (.ref (G 0)), none, some (.int l2), some (.int l3), some (.int l4), some (.int l5), some (.int l6), none, some (.int l8)] [] := by
  intro T h
  rw [x_gapOfTwo_b169] at h
  refine j_iload C dX0_gapOfTwo_169 rfl ?_
  refine j_if_lt C dX0_gapOfTwo_171 (tgt := 186) (by decide) (fun c => ?_) (fun c => ?_)
  · replace h := ip c h
    refine j_iload C dX0_gapOfTwo_186 rfl ?_
    refine j_istore C dX0_gapOfTwo_188 (by decide) rfl ?_
    refine j_goto C dX0_gapOfTwo_190 (tgt := 41) (by decide) ?_
    exact j_sub (hk41 _ _ _ _ _ h) ⟨rfl, ⟨rfl, ⟨rfl, ⟨rfl, ⟨rfl, ⟨rfl, trivial⟩⟩⟩⟩⟩⟩
  replace h := im c h
  refine j_iload C dX0_gapOfTwo_174 rfl ?_
  refine j_iload C dX0_gapOfTwo_176 rfl ?_
  refine j_iload C dX0_gapOfTwo_178 rfl ?_
  refine j_isub C dX0_gapOfTwo_180 ?_
  refine j_mmax C dX0_gapOfTwo_181 q902 q695 q129 q696 (Nat.le_of_ble_eq_true rfl) (Nat.le_of_ble_eq_true rfl) (Nat.le_of_ble_eq_true rfl) (Nat.le_of_ble_eq_true rfl) ?_
  refine j_nmI h (fun x1 h => ?_)
  refine j_istore C dX0_gapOfTwo_184 (by decide) rfl ?_
  refine j_iload C dX0_gapOfTwo_186 rfl ?_
  refine j_istore C dX0_gapOfTwo_188 (by decide) rfl ?_
  refine j_goto C dX0_gapOfTwo_190 (tgt := 41) (by decide) ?_
  exact j_sub (hk41 _ _ _ _ _ h) ⟨rfl, ⟨rfl, ⟨rfl, ⟨rfl, ⟨rfl, ⟨rfl, trivial⟩⟩⟩⟩⟩⟩
def x_gapOfTwo_b128 (N : Nat) (l2 : Int32) (l3 : Int32) (l4 : Int32) (l5 : Int32) (l6 : Int32) (k41 : XS → Int32 → Int32 → Int32 → Int32 → Option (Int32 × XS)) (T : XS) (s1 : Int32) : Option (Int32 × XS) :=
  (if s1 = 0 then
  chk 4000 l3 (
  nm (T.2.1 21 l3.toNatClampNeg) fun x2 =>
  (if s1 = 0 then
  nm (l3 + 1) fun x3 =>
  x_gapOfTwo_b169 N l2 x3 l4 l5 l6 x2 k41 T
  else
  nm (l4 + 1) fun x4 =>
  x_gapOfTwo_b169 N l2 l3 x4 l5 l6 x2 k41 T))
  else
  chk 4000 l4 (
  nm ((T.2.1 21 l4.toNatClampNeg) + l2) fun x6 =>
  (if s1 = 0 then
  nm (l3 + 1) fun x7 =>
  x_gapOfTwo_b169 N l2 x7 l4 l5 l6 x6 k41 T
  else
  nm (l4 + 1) fun x8 =>
  x_gapOfTwo_b169 N l2 l3 x8 l5 l6 x6 k41 T)))
theorem wx_gapOfTwo_b128 {κ : jK} (hκ : jX κ) (N : Nat) {Γ : jG} (C : jC κ Γ cX0_gapOfTwo 9 RX0 (some .int)) {G : Nat → Nat} (l2 : Int32) (l3 : Int32) (l4 : Int32) (l5 : Int32) (l6 : Int32) (k41 : XS → Int32 → Int32 → Int32 → Int32 → Option (Int32 × XS)) {v : Int32} {T' : XS} (hk41 : ∀ (T : XS) (l3 : Int32) (l4 : Int32) (l5 : Int32) (l6 : Int32), k41 T l3 l4 l5 l6 = some (v, T') → J κ Γ (1, 0, 0, (fun u w' => u = some (.int v) ∧ w' = wX κ G T')) 9 (wX κ G T) 0 0 41 [some (.ref (G 0)), none, some (.int l2), some (.int l3), some (.int l4), some (.int l5), some (.int l6), none, none] []) : ∀ (T : XS) (s1 : Int32), x_gapOfTwo_b128 N l2 l3 l4 l5 l6 k41 T s1 = some (v, T') → J κ Γ (1, 0, 0, (fun u w' => u = some (.int v) ∧ w' = wX κ G T')) 9 (wX κ G T) 0 0 128 [some (.ref (G 0)), none, some (.int l2), some (.int l3), some (.int l4), some (.int l5), some (.int l6), none, none] [.int s1] := by
  intro T s1 h
  rw [x_gapOfTwo_b128] at h
  refine j_istore C dX0_gapOfTwo_128 (by decide) rfl ?_
  refine j_iload C dX0_gapOfTwo_130 rfl ?_
  refine j_if_eq C dX0_gapOfTwo_132 (tgt := 147) (by decide) (fun c => ?_) (fun c => ?_)
  · replace h := ip c h
    refine j_aload_n C dX0_gapOfTwo_147 rfl rfl ?_
    refine jx_geta hκ C 21 (by decide) rfl rfl q210 dX0_gapOfTwo_148 ?_
    refine j_iload_n C dX0_gapOfTwo_151 rfl rfl ?_
    obtain ⟨b1, h⟩ := chk_some h
    refine jx_iald hκ C 21 rfl rfl b1 dX0_gapOfTwo_152 ?_
    refine j_nmI h (fun x2 h => ?_)
    refine j_istore C dX0_gapOfTwo_153 (by decide) rfl ?_
    refine j_iload C dX0_gapOfTwo_155 rfl ?_
    refine j_if_eq C dX0_gapOfTwo_157 (tgt := 166) (by decide) (fun c => ?_) (fun c => ?_)
    · replace h := ip c h
      refine j_iincN C h dX0_gapOfTwo_166 rfl rfl (by decide) rfl (fun x3 h => ?_)
      exact j_sub (wx_gapOfTwo_b169 hκ N C _ _ _ _ _ _ _ hk41 _ h) ⟨rfl, ⟨rfl, ⟨rfl, ⟨rfl, ⟨rfl, ⟨rfl, ⟨rfl, trivial⟩⟩⟩⟩⟩⟩⟩
    replace h := im c h
    refine j_iincN C h dX0_gapOfTwo_160 rfl rfl (by decide) rfl (fun x4 h => ?_)
    refine j_goto C dX0_gapOfTwo_163 (tgt := 169) (by decide) ?_
    exact j_sub (wx_gapOfTwo_b169 hκ N C _ _ _ _ _ _ _ hk41 _ h) ⟨rfl, ⟨rfl, ⟨rfl, ⟨rfl, ⟨rfl, ⟨rfl, ⟨rfl, trivial⟩⟩⟩⟩⟩⟩⟩
  replace h := im c h
  refine j_aload_n C dX0_gapOfTwo_135 rfl rfl ?_
  refine jx_geta hκ C 21 (by decide) rfl rfl q210 dX0_gapOfTwo_136 ?_
  refine j_iload C dX0_gapOfTwo_139 rfl ?_
  obtain ⟨b5, h⟩ := chk_some h
  refine jx_iald hκ C 21 rfl rfl b5 dX0_gapOfTwo_141 ?_
  refine j_iload_n C dX0_gapOfTwo_142 rfl rfl ?_
  refine j_iadd C dX0_gapOfTwo_143 ?_
  refine j_goto C dX0_gapOfTwo_144 (tgt := 153) (by decide) ?_
  refine j_nmI h (fun x6 h => ?_)
  refine j_istore C dX0_gapOfTwo_153 (by decide) rfl ?_
  refine j_iload C dX0_gapOfTwo_155 rfl ?_
  refine j_if_eq C dX0_gapOfTwo_157 (tgt := 166) (by decide) (fun c => ?_) (fun c => ?_)
  · replace h := ip c h
    refine j_iincN C h dX0_gapOfTwo_166 rfl rfl (by decide) rfl (fun x7 h => ?_)
    exact j_sub (wx_gapOfTwo_b169 hκ N C _ _ _ _ _ _ _ hk41 _ h) ⟨rfl, ⟨rfl, ⟨rfl, ⟨rfl, ⟨rfl, ⟨rfl, ⟨rfl, trivial⟩⟩⟩⟩⟩⟩⟩
  replace h := im c h
  refine j_iincN C h dX0_gapOfTwo_160 rfl rfl (by decide) rfl (fun x8 h => ?_)
  refine j_goto C dX0_gapOfTwo_163 (tgt := 169) (by decide) ?_
  exact j_sub (wx_gapOfTwo_b169 hκ N C _ _ _ _ _ _ _ hk41 _ h) ⟨rfl, ⟨rfl, ⟨rfl, ⟨rfl, ⟨rfl, ⟨rfl, ⟨rfl, trivial⟩⟩⟩⟩⟩⟩⟩
def x_gapOfTwo_b73 (N : Nat) (l2 : Int32) (l3 : Int32) (l4 : Int32) (l5 : Int32) (l6 : Int32) (k41 : XS → Int32 → Int32 → Int32 → Int32 → Option (Int32 × XS)) (T : XS) : Option (Int32 × XS) :=
  (if l3 = (T.1 22) then
  x_gapOfTwo_b128 N l2 l3 l4 l5 l6 k41 T 1
  else
  (if (T.1 22) ≤ l4 then
  x_gapOfTwo_b128 N l2 l3 l4 l5 l6 k41 T 0
  else
  chk 4000 l4 (
  (if 999 < ((T.2.1 21 l4.toNatClampNeg) + l2) then
  x_gapOfTwo_b128 N l2 l3 l4 l5 l6 k41 T 0
  else
  chk 4000 l4 (
  chk 4000 l3 (
  (if (T.2.1 21 l3.toNatClampNeg) ≤ ((T.2.1 21 l4.toNatClampNeg) + l2) then
  x_gapOfTwo_b128 N l2 l3 l4 l5 l6 k41 T 0
  else
  x_gapOfTwo_b128 N l2 l3 l4 l5 l6 k41 T 1)))))))
theorem wx_gapOfTwo_b73 {κ : jK} (hκ : jX κ) (N : Nat) {Γ : jG} (C : jC κ Γ cX0_gapOfTwo 9 RX0 (some .int)) {G : Nat → Nat} (l2 : Int32) (l3 : Int32) (l4 : Int32) (l5 : Int32) (l6 : Int32) (k41 : XS → Int32 → Int32 → Int32 → Int32 → Option (Int32 × XS)) {v : Int32} {T' : XS} (hk41 : ∀ (T : XS) (l3 : Int32) (l4 : Int32) (l5 : Int32) (l6 : Int32), k41 T l3 l4 l5 l6 = some (v, T') → J κ Γ (1, 0, 0, (fun u w' => u = some (.int v) ∧ w' = wX κ G T')) 9 (wX κ G T) 0 0 41 [some (.ref (G 0)), none, some (.int l2), some (.int l3), some (.int l4), some (.int l5), some (.int l6), none, none] []) : ∀ (T : XS), x_gapOfTwo_b73 N l2 l3 l4 l5 l6 k41 T = some (v, T') → J κ Γ (1, 0, 0, (fun u w' => u = some (.int v) ∧ w' = wX κ G T')) 9 (wX κ G T) 0 0 73 [some (.ref (G 0)), none, some (.int l2), some (.int l3), some (.int l4), some (.int l5), some (.int l6), none, none] [] := by
  intro T h
  rw [x_gapOfTwo_b73] at h
  refine j_iload_n C dX0_gapOfTwo_73 rfl rfl ?_
  refine j_aload_n C dX0_gapOfTwo_74 rfl rfl ?_
  refine jx_geti hκ C 22 (by decide) rfl q211 dX0_gapOfTwo_75 ?_
  refine j_icmp_eq C dX0_gapOfTwo_78 (tgt := 123) (by decide) (fun c => ?_) (fun c => ?_)
  · replace h := ip c h
    refine j_iconst C (v := 1) dX0_gapOfTwo_123 rfl ?_
    refine j_goto C dX0_gapOfTwo_124 (tgt := 128) (by decide) ?_
    exact j_sub (wx_gapOfTwo_b128 hκ N C _ _ _ _ _ _ hk41 _ _ h) ⟨rfl, ⟨rfl, ⟨rfl, ⟨rfl, ⟨rfl, ⟨rfl, trivial⟩⟩⟩⟩⟩⟩
  replace h := im c h
  refine j_iload C dX0_gapOfTwo_81 rfl ?_
  refine j_aload_n C dX0_gapOfTwo_83 rfl rfl ?_
  refine jx_geti hκ C 22 (by decide) rfl q211 dX0_gapOfTwo_84 ?_
  refine j_icmp_ge C dX0_gapOfTwo_87 (tgt := 127) (by decide) (fun c => ?_) (fun c => ?_)
  · replace h := ip c h
    refine j_iconst C (v := 0) dX0_gapOfTwo_127 rfl ?_
    exact j_sub (wx_gapOfTwo_b128 hκ N C _ _ _ _ _ _ hk41 _ _ h) ⟨rfl, ⟨rfl, ⟨rfl, ⟨rfl, ⟨rfl, ⟨rfl, trivial⟩⟩⟩⟩⟩⟩
  replace h := im c h
  refine j_aload_n C dX0_gapOfTwo_90 rfl rfl ?_
  refine jx_geta hκ C 21 (by decide) rfl rfl q210 dX0_gapOfTwo_91 ?_
  refine j_iload C dX0_gapOfTwo_94 rfl ?_
  obtain ⟨b1, h⟩ := chk_some h
  refine jx_iald hκ C 21 rfl rfl b1 dX0_gapOfTwo_96 ?_
  refine j_iload_n C dX0_gapOfTwo_97 rfl rfl ?_
  refine j_iadd C dX0_gapOfTwo_98 ?_
  refine j_sipush C (v := 999) dX0_gapOfTwo_99 rfl ?_
  refine j_icmp_gt C dX0_gapOfTwo_102 (tgt := 127) (by decide) (fun c => ?_) (fun c => ?_)
  · replace h := ip c h
    refine j_iconst C (v := 0) dX0_gapOfTwo_127 rfl ?_
    exact j_sub (wx_gapOfTwo_b128 hκ N C _ _ _ _ _ _ hk41 _ _ h) ⟨rfl, ⟨rfl, ⟨rfl, ⟨rfl, ⟨rfl, ⟨rfl, trivial⟩⟩⟩⟩⟩⟩
  replace h := im c h
  refine j_aload_n C dX0_gapOfTwo_105 rfl rfl ?_
  refine jx_geta hκ C 21 (by decide) rfl rfl q210 dX0_gapOfTwo_106 ?_
  refine j_iload C dX0_gapOfTwo_109 rfl ?_
  obtain ⟨b2, h⟩ := chk_some h
  refine jx_iald hκ C 21 rfl rfl b2 dX0_gapOfTwo_111 ?_
  refine j_iload_n C dX0_gapOfTwo_112 rfl rfl ?_
  refine j_iadd C dX0_gapOfTwo_113 ?_
  refine j_aload_n C dX0_gapOfTwo_114 rfl rfl ?_
  refine jx_geta hκ C 21 (by decide) rfl rfl q210 dX0_gapOfTwo_115 ?_
  refine j_iload_n C dX0_gapOfTwo_118 rfl rfl ?_
  obtain ⟨b3, h⟩ := chk_some h
  refine jx_iald hκ C 21 rfl rfl b3 dX0_gapOfTwo_119 ?_
  refine j_icmp_ge C dX0_gapOfTwo_120 (tgt := 127) (by decide) (fun c => ?_) (fun c => ?_)
  · replace h := ip c h
    refine j_iconst C (v := 0) dX0_gapOfTwo_127 rfl ?_
    exact j_sub (wx_gapOfTwo_b128 hκ N C _ _ _ _ _ _ hk41 _ _ h) ⟨rfl, ⟨rfl, ⟨rfl, ⟨rfl, ⟨rfl, ⟨rfl, trivial⟩⟩⟩⟩⟩⟩
  replace h := im c h
  refine j_iconst C (v := 1) dX0_gapOfTwo_123 rfl ?_
  refine j_goto C dX0_gapOfTwo_124 (tgt := 128) (by decide) ?_
  exact j_sub (wx_gapOfTwo_b128 hκ N C _ _ _ _ _ _ hk41 _ _ h) ⟨rfl, ⟨rfl, ⟨rfl, ⟨rfl, ⟨rfl, ⟨rfl, trivial⟩⟩⟩⟩⟩⟩
def x_gapOfTwo_b41 (N : Nat) (l2 : Int32) : Nat → XS → Int32 → Int32 → Int32 → Int32 → Option (Int32 × XS)
  | 0, _, _, _, _, _ => none
  | n + 1, T, l3, l4, l5, l6 =>
    (if l3 < (T.1 22) then
    x_gapOfTwo_b73 N l2 l3 l4 l5 l6 (fun t y3 y4 y5 y6 => x_gapOfTwo_b41 N l2 n t y3 y4 y5 y6) T
    else
    (if (T.1 22) ≤ l4 then
    some (l6, T)
    else
    chk 4000 l4 (
    (if 999 < ((T.2.1 21 l4.toNatClampNeg) + l2) then
    some (l6, T)
    else
    x_gapOfTwo_b73 N l2 l3 l4 l5 l6 (fun t y3 y4 y5 y6 => x_gapOfTwo_b41 N l2 n t y3 y4 y5 y6) T))))
theorem wx_gapOfTwo_b41 {κ : jK} (hκ : jX κ) (N : Nat) {Γ : jG} (C : jC κ Γ cX0_gapOfTwo 9 RX0 (some .int)) {G : Nat → Nat} (l2 : Int32) {v : Int32} {T' : XS} : ∀ (n : Nat) (T : XS) (l3 : Int32) (l4 : Int32) (l5 : Int32) (l6 : Int32), x_gapOfTwo_b41 N l2 n T l3 l4 l5 l6 = some (v, T') → J κ Γ (1, 0, 0, (fun u w' => u = some (.int v) ∧ w' = wX κ G T')) 9 (wX κ G T) 0 0 41 [some (.ref (G 0)), none, some (.int l2), some (.int l3), some (.int l4), some (.int l5), some (.int l6), none, none] [] := by
  intro n
  induction n with
  | zero => intro _ _ _ _ _ h; cases h
  | succ n ih =>
    intro T l3 l4 l5 l6 h
    rw [x_gapOfTwo_b41] at h
    refine j_iload_n C dX0_gapOfTwo_41 rfl rfl ?_
    refine j_aload_n C dX0_gapOfTwo_42 rfl rfl ?_
    refine jx_geti hκ C 22 (by decide) rfl q211 dX0_gapOfTwo_43 ?_
    refine j_icmp_lt C dX0_gapOfTwo_46 (tgt := 73) (by decide) (fun c => ?_) (fun c => ?_)
    · replace h := ip c h
      exact j_sub (wx_gapOfTwo_b73 hκ N C _ _ _ _ _ _ (fun _ _ _ _ _ h => ih _ _ _ _ _ h) _ h) ⟨rfl, ⟨rfl, ⟨rfl, ⟨rfl, ⟨rfl, ⟨rfl, trivial⟩⟩⟩⟩⟩⟩
    replace h := im c h
    refine j_iload C dX0_gapOfTwo_49 rfl ?_
    refine j_aload_n C dX0_gapOfTwo_51 rfl rfl ?_
    refine jx_geti hκ C 22 (by decide) rfl q211 dX0_gapOfTwo_52 ?_
    refine j_icmp_ge C dX0_gapOfTwo_55 (tgt := 193) (by decide) (fun c => ?_) (fun c => ?_)
    · replace h := ip c h
      refine j_iload C dX0_gapOfTwo_193 rfl ?_
      obtain ⟨rfl, rfl⟩ := sp2 h
      exact j_iret C dX0_gapOfTwo_195 (Nat.le_of_ble_eq_true rfl) (Nat.le_of_ble_eq_true rfl) ⟨rfl, rfl⟩
    replace h := im c h
    refine j_aload_n C dX0_gapOfTwo_58 rfl rfl ?_
    refine jx_geta hκ C 21 (by decide) rfl rfl q210 dX0_gapOfTwo_59 ?_
    refine j_iload C dX0_gapOfTwo_62 rfl ?_
    obtain ⟨b1, h⟩ := chk_some h
    refine jx_iald hκ C 21 rfl rfl b1 dX0_gapOfTwo_64 ?_
    refine j_iload_n C dX0_gapOfTwo_65 rfl rfl ?_
    refine j_iadd C dX0_gapOfTwo_66 ?_
    refine j_sipush C (v := 999) dX0_gapOfTwo_67 rfl ?_
    refine j_icmp_gt C dX0_gapOfTwo_70 (tgt := 193) (by decide) (fun c => ?_) (fun c => ?_)
    · replace h := ip c h
      refine j_iload C dX0_gapOfTwo_193 rfl ?_
      obtain ⟨rfl, rfl⟩ := sp2 h
      exact j_iret C dX0_gapOfTwo_195 (Nat.le_of_ble_eq_true rfl) (Nat.le_of_ble_eq_true rfl) ⟨rfl, rfl⟩
    replace h := im c h
    exact j_sub (wx_gapOfTwo_b73 hκ N C _ _ _ _ _ _ (fun _ _ _ _ _ h => ih _ _ _ _ _ h) _ h) ⟨rfl, ⟨rfl, ⟨rfl, ⟨rfl, ⟨rfl, ⟨rfl, trivial⟩⟩⟩⟩⟩⟩
def x_gapOfTwo_b17 (N : Nat) (l2 : Int32) (l4 : Int32) (l5 : Int32) (l6 : Int32) : Nat → XS → Int32 → Option (Int32 × XS)
  | 0, _, _ => none
  | n + 1, T, l3 =>
    (if (T.1 22) ≤ l3 then
    x_gapOfTwo_b41 N l2 N T l3 l4 l5 l6
    else
    chk 4000 l3 (
    (if l2 ≤ (T.2.1 21 l3.toNatClampNeg) then
    x_gapOfTwo_b41 N l2 N T l3 l4 l5 l6
    else
    nm (l3 + 1) fun x2 =>
    x_gapOfTwo_b17 N l2 l4 l5 l6 n T x2)))
theorem wx_gapOfTwo_b17 {κ : jK} (hκ : jX κ) (N : Nat) {Γ : jG} (C : jC κ Γ cX0_gapOfTwo 9 RX0 (some .int)) {G : Nat → Nat} (l2 : Int32) (l4 : Int32) (l5 : Int32) (l6 : Int32) {v : Int32} {T' : XS} : ∀ (n : Nat) (T : XS) (l3 : Int32), x_gapOfTwo_b17 N l2 l4 l5 l6 n T l3 = some (v, T') → J κ Γ (1, 0, 0, (fun u w' => u = some (.int v) ∧ w' = wX κ G T')) 9 (wX κ G T) 0 0 17 [some (.ref (G 0)), none, some (.int l2), some (.int l3), some (.int l4), some (.int l5), some (.int l6), none, none] [] := by
  intro n
  induction n with
  | zero => intro _ _ h; cases h
  | succ n ih =>
    intro T l3 h
    rw [x_gapOfTwo_b17] at h
    refine j_iload_n C dX0_gapOfTwo_17 rfl rfl ?_
    refine j_aload_n C dX0_gapOfTwo_18 rfl rfl ?_
    refine jx_geti hκ C 22 (by decide) rfl q211 dX0_gapOfTwo_19 ?_
    refine j_icmp_ge C dX0_gapOfTwo_22 (tgt := 41) (by decide) (fun c => ?_) (fun c => ?_)
    · replace h := ip c h
      exact j_sub (wx_gapOfTwo_b41 hκ N C _ N _ _ _ _ _ h) ⟨rfl, ⟨rfl, ⟨rfl, ⟨rfl, ⟨rfl, ⟨rfl, trivial⟩⟩⟩⟩⟩⟩
    replace h := im c h
    refine j_aload_n C dX0_gapOfTwo_25 rfl rfl ?_
    refine jx_geta hκ C 21 (by decide) rfl rfl q210 dX0_gapOfTwo_26 ?_
    refine j_iload_n C dX0_gapOfTwo_29 rfl rfl ?_
    obtain ⟨b1, h⟩ := chk_some h
    refine jx_iald hκ C 21 rfl rfl b1 dX0_gapOfTwo_30 ?_
    refine j_iload_n C dX0_gapOfTwo_31 rfl rfl ?_
    refine j_icmp_ge C dX0_gapOfTwo_32 (tgt := 41) (by decide) (fun c => ?_) (fun c => ?_)
    · replace h := ip c h
      exact j_sub (wx_gapOfTwo_b41 hκ N C _ N _ _ _ _ _ h) ⟨rfl, ⟨rfl, ⟨rfl, ⟨rfl, ⟨rfl, ⟨rfl, trivial⟩⟩⟩⟩⟩⟩
    replace h := im c h
    refine j_iincN C h dX0_gapOfTwo_35 rfl rfl (by decide) rfl (fun x2 h => ?_)
    refine j_goto C dX0_gapOfTwo_38 (tgt := 17) (by decide) ?_
    exact j_sub (ih _ _ h) ⟨rfl, ⟨rfl, ⟨rfl, ⟨rfl, ⟨rfl, ⟨rfl, trivial⟩⟩⟩⟩⟩⟩
def x_gapOfTwo (N : Nat) (T : XS) (p1 : Int32) (p2 : Int32) : Option (Int32 × XS) :=
  (x_layMine N T p1).bind fun T3 =>
  x_gapOfTwo_b17 N p2 0 (-1) (-2) N T3 0
theorem mt_x_gapOfTwo {κ : jK} (hκ : jX κ) (N : Nat) (G : Nat → Nat) {T : XS} {p1 : Int32} {p2 : Int32} {v : Int32} {T' : XS} (h : x_gapOfTwo N T p1 p2 = some (v, T')) : jM κ yX0_gapOfTwo (ws_ yX0_gapOfTwo cX0_gapOfTwo 9 (some .int)) 1 0 0 [.ref (G 0), .int p1, .int p2] (wX κ G T) (fun u w' => u = some (.int v) ∧ w' = wX κ G T') := by
  rw [x_gapOfTwo] at h
  refine jM.of (by decide) rfl (Nat.le_of_ble_eq_true rfl) fun Γ C _ => ?_
  show J κ Γ (1, 0, 0, (fun u w' => u = some (.int v) ∧ w' = wX κ G T')) 9 (wX κ G T) 0 0 0 [some (.ref (G 0)), some (.int p1), some (.int p2), none, none, none, none, none, none] []
  refine j_aload_n C dX0_gapOfTwo_0 rfl rfl ?_
  refine j_iload_n C dX0_gapOfTwo_1 rfl rfl ?_
  obtain ⟨T3, e1, h⟩ := ob h
  refine jx_Vv hκ C (mt_x_layMine hκ N G e1) hG_x_layMine hy_x_layMine rfl rfl dX0_gapOfTwo_2 (jfit.of (Nat.le_of_ble_eq_true rfl) (by decide) (Nat.le_of_ble_eq_true rfl) (Nat.le_of_ble_eq_true rfl) (Nat.le_of_ble_eq_true rfl)) rfl ?_
  refine j_iconst C (v := 0) dX0_gapOfTwo_5 rfl ?_
  refine j_istore_n C dX0_gapOfTwo_6 rfl (by decide) rfl ?_
  refine j_iconst C (v := 0) dX0_gapOfTwo_7 rfl ?_
  refine j_istore C dX0_gapOfTwo_8 (by decide) rfl ?_
  refine j_iconst C (v := (-1)) dX0_gapOfTwo_10 rfl ?_
  refine j_istore C dX0_gapOfTwo_11 (by decide) rfl ?_
  refine j_bipush C (v := (-2)) dX0_gapOfTwo_13 rfl ?_
  refine j_istore C dX0_gapOfTwo_15 (by decide) rfl ?_
  exact j_sub (wx_gapOfTwo_b17 hκ N C _ _ _ _ N _ _ h) ⟨rfl, ⟨rfl, ⟨rfl, ⟨rfl, ⟨rfl, ⟨rfl, trivial⟩⟩⟩⟩⟩⟩
/-! bestLater -/
def x_bestLater_b19 (N : Nat) (l1 : Int32) (l2 : Int32) (l3 : Int32) (k7 : XS → Int32 → Int32 → Int32 → Option (Int32 × XS)) : Nat → XS → Int32 → Int32 → Option (Int32 × XS)
  | 0, _, _, _ => none
  | n + 1, T, l4, l5 =>
    (if (T.1 1) ≤ l5 then
    (if l1 < 0 then
    nm (l3 + 1) fun x1 =>
    k7 T l3 l4 x1
    else
    (if l4 < l2 then
    nm (l3 + 1) fun x2 =>
    k7 T l3 l4 x2
    else
    nm (l3 + 1) fun x3 =>
    k7 T l1 l2 x3))
    else
    b2 (x_gapOfTwo N T l5 l3) fun v5 T6 =>
    nm (jmax l4 v5) fun x7 =>
    nm (l5 + 1) fun x8 =>
    x_bestLater_b19 N l1 l2 l3 k7 n T6 x7 x8)
theorem wx_bestLater_b19 {κ : jK} (hκ : jX κ) (N : Nat) {Γ : jG} (C : jC κ Γ cX0_bestLater 6 RX0 (some .int)) {G : Nat → Nat} (l1 : Int32) (l2 : Int32) (l3 : Int32) (k7 : XS → Int32 → Int32 → Int32 → Option (Int32 × XS)) {v : Int32} {T' : XS} (hk7 : ∀ (T : XS) (l1 : Int32) (l2 : Int32) (l3 : Int32), k7 T l1 l2 l3 = some (v, T') → J κ Γ (2, 0, 0, (fun u w' => u = some (.int v) ∧ w' = wX κ G T')) 6 (wX κ G T) 0 0 7 [some (.ref (G 0)), some (.int l1), some (.int l2), some (.int l3), none, none] []) : ∀ (n : Nat) (T : XS) (l4 : Int32) (l5 : Int32), x_bestLater_b19 N l1 l2 l3 k7 n T l4 l5 = some (v, T') → J κ Γ (2, 0, 0, (fun u w' => u = some (.int v) ∧ w' = wX κ G T')) 6 (wX κ G T) 0 0 19 [some (.ref (G 0)), some (.int l1), some (.int l2), some (.int l3), some (.int l4), some (.int l5)] [] := by
  intro n
  induction n with
  | zero => intro _ _ _ h; cases h
  | succ n ih =>
    intro T l4 l5 h
    rw [x_bestLater_b19] at h
    refine j_iload C dX0_bestLater_19 rfl ?_
    refine j_aload_n C dX0_bestLater_21 rfl rfl ?_
    refine jx_geti hκ C 1 (by decide) rfl q188 dX0_bestLater_22 ?_
    refine j_icmp_ge C dX0_bestLater_25 (tgt := 48) (by decide) (fun c => ?_) (fun c => ?_)
    · replace h := ip c h
      refine j_iload_n C dX0_bestLater_48 rfl rfl ?_
      refine j_if_lt C dX0_bestLater_49 (tgt := 61) (by decide) (fun c => ?_) (fun c => ?_)
      · replace h := ip c h
        refine j_iload_n C dX0_bestLater_61 rfl rfl ?_
        refine j_istore_n C dX0_bestLater_62 rfl (by decide) rfl ?_
        refine j_iload C dX0_bestLater_63 rfl ?_
        refine j_istore_n C dX0_bestLater_65 rfl (by decide) rfl ?_
        refine j_iincN C h dX0_bestLater_66 rfl rfl (by decide) rfl (fun x1 h => ?_)
        refine j_goto C dX0_bestLater_69 (tgt := 7) (by decide) ?_
        exact j_sub (hk7 _ _ _ _ h) ⟨rfl, ⟨rfl, ⟨rfl, ⟨rfl, trivial⟩⟩⟩⟩
      replace h := im c h
      refine j_iload C dX0_bestLater_52 rfl ?_
      refine j_iload_n C dX0_bestLater_54 rfl rfl ?_
      refine j_icmp_lt C dX0_bestLater_55 (tgt := 61) (by decide) (fun c => ?_) (fun c => ?_)
      · replace h := ip c h
        refine j_iload_n C dX0_bestLater_61 rfl rfl ?_
        refine j_istore_n C dX0_bestLater_62 rfl (by decide) rfl ?_
        refine j_iload C dX0_bestLater_63 rfl ?_
        refine j_istore_n C dX0_bestLater_65 rfl (by decide) rfl ?_
        refine j_iincN C h dX0_bestLater_66 rfl rfl (by decide) rfl (fun x2 h => ?_)
        refine j_goto C dX0_bestLater_69 (tgt := 7) (by decide) ?_
        exact j_sub (hk7 _ _ _ _ h) ⟨rfl, ⟨rfl, ⟨rfl, ⟨rfl, trivial⟩⟩⟩⟩
      replace h := im c h
      refine j_goto C dX0_bestLater_58 (tgt := 66) (by decide) ?_
      refine j_iincN C h dX0_bestLater_66 rfl rfl (by decide) rfl (fun x3 h => ?_)
      refine j_goto C dX0_bestLater_69 (tgt := 7) (by decide) ?_
      exact j_sub (hk7 _ _ _ _ h) ⟨rfl, ⟨rfl, ⟨rfl, ⟨rfl, trivial⟩⟩⟩⟩
    replace h := im c h
    refine j_iload C dX0_bestLater_28 rfl ?_
    refine j_aload_n C dX0_bestLater_30 rfl rfl ?_
    refine j_iload C dX0_bestLater_31 rfl ?_
    refine j_iload_n C dX0_bestLater_33 rfl rfl ?_
    obtain ⟨v5, T6, e4, h⟩ := ob2 h
    refine jx_Vi hκ C (mt_x_gapOfTwo hκ N G e4) hG_x_gapOfTwo hy_x_gapOfTwo rfl rfl dX0_bestLater_34 (jfit.of (Nat.le_of_ble_eq_true rfl) (by decide) (Nat.le_of_ble_eq_true rfl) (Nat.le_of_ble_eq_true rfl) (Nat.le_of_ble_eq_true rfl)) rfl ?_
    refine j_mmax C dX0_bestLater_37 q902 q695 q129 q696 (Nat.le_of_ble_eq_true rfl) (Nat.le_of_ble_eq_true rfl) (Nat.le_of_ble_eq_true rfl) (Nat.le_of_ble_eq_true rfl) ?_
    refine j_nmI h (fun x7 h => ?_)
    refine j_istore C dX0_bestLater_40 (by decide) rfl ?_
    refine j_iincN C h dX0_bestLater_42 rfl rfl (by decide) rfl (fun x8 h => ?_)
    refine j_goto C dX0_bestLater_45 (tgt := 19) (by decide) ?_
    exact j_sub (ih _ _ _ h) ⟨rfl, ⟨rfl, ⟨rfl, ⟨rfl, ⟨rfl, ⟨rfl, trivial⟩⟩⟩⟩⟩⟩
def x_bestLater_b7 (N : Nat) : Nat → XS → Int32 → Int32 → Int32 → Option (Int32 × XS)
  | 0, _, _, _, _ => none
  | n + 1, T, l1, l2, l3 =>
    (if 99 < l3 then
    some (l1, T)
    else
    x_bestLater_b19 N l1 l2 l3 (fun t y1 y2 y3 => x_bestLater_b7 N n t y1 y2 y3) N T 0 0)
theorem wx_bestLater_b7 {κ : jK} (hκ : jX κ) (N : Nat) {Γ : jG} (C : jC κ Γ cX0_bestLater 6 RX0 (some .int)) {G : Nat → Nat}  {v : Int32} {T' : XS} : ∀ (n : Nat) (T : XS) (l1 : Int32) (l2 : Int32) (l3 : Int32), x_bestLater_b7 N n T l1 l2 l3 = some (v, T') → J κ Γ (2, 0, 0, (fun u w' => u = some (.int v) ∧ w' = wX κ G T')) 6 (wX κ G T) 0 0 7 [some (.ref (G 0)), some (.int l1), some (.int l2), some (.int l3), none, none] [] := by
  intro n
  induction n with
  | zero => intro _ _ _ _ h; cases h
  | succ n ih =>
    intro T l1 l2 l3 h
    rw [x_bestLater_b7] at h
    refine j_iload_n C dX0_bestLater_7 rfl rfl ?_
    refine j_bipush C (v := 99) dX0_bestLater_8 rfl ?_
    refine j_icmp_gt C dX0_bestLater_10 (tgt := 72) (by decide) (fun c => ?_) (fun c => ?_)
    · replace h := ip c h
      refine j_iload_n C dX0_bestLater_72 rfl rfl ?_
      obtain ⟨rfl, rfl⟩ := sp2 h
      exact j_iret C dX0_bestLater_73 (Nat.le_of_ble_eq_true rfl) (Nat.le_of_ble_eq_true rfl) ⟨rfl, rfl⟩
    replace h := im c h
    refine j_iconst C (v := 0) dX0_bestLater_13 rfl ?_
    refine j_istore C dX0_bestLater_14 (by decide) rfl ?_
    refine j_iconst C (v := 0) dX0_bestLater_16 rfl ?_
    refine j_istore C dX0_bestLater_17 (by decide) rfl ?_
    exact j_sub (wx_bestLater_b19 hκ N C _ _ _ _ (fun _ _ _ _ h => ih _ _ _ _ h) N _ _ _ h) ⟨rfl, ⟨rfl, ⟨rfl, ⟨rfl, ⟨rfl, ⟨rfl, trivial⟩⟩⟩⟩⟩⟩
def x_bestLater (N : Nat) (T : XS) : Option (Int32 × XS) :=
  x_bestLater_b7 N N T (-2) 0 0
theorem mt_x_bestLater {κ : jK} (hκ : jX κ) (N : Nat) (G : Nat → Nat) {T : XS} {v : Int32} {T' : XS} (h : x_bestLater N T = some (v, T')) : jM κ yX0_bestLater (ws_ yX0_bestLater cX0_bestLater 6 (some .int)) 2 0 0 [.ref (G 0)] (wX κ G T) (fun u w' => u = some (.int v) ∧ w' = wX κ G T') := by
  rw [x_bestLater] at h
  refine jM.of (by decide) rfl (Nat.le_of_ble_eq_true rfl) fun Γ C _ => ?_
  show J κ Γ (2, 0, 0, (fun u w' => u = some (.int v) ∧ w' = wX κ G T')) 6 (wX κ G T) 0 0 0 [some (.ref (G 0)), none, none, none, none, none] []
  refine j_bipush C (v := (-2)) dX0_bestLater_0 rfl ?_
  refine j_istore_n C dX0_bestLater_2 rfl (by decide) rfl ?_
  refine j_iconst C (v := 0) dX0_bestLater_3 rfl ?_
  refine j_istore_n C dX0_bestLater_4 rfl (by decide) rfl ?_
  refine j_iconst C (v := 0) dX0_bestLater_5 rfl ?_
  refine j_istore_n C dX0_bestLater_6 rfl (by decide) rfl ?_
  exact j_sub (wx_bestLater_b7 hκ N C N _ _ _ _ h) ⟨rfl, ⟨rfl, ⟨rfl, ⟨rfl, trivial⟩⟩⟩⟩
/-! two -/
def x_two_b37 (N : Nat) (l1 : Int32) (l2 : Int32) (l3 : Int32) (T : XS) : Option (Int32 × XS) :=
  b2 (x_layForth N T l1) fun v2 T3 =>
  (if 0 ≤ v2 then
  (if 0 ≤ l2 then
  b2 (x_gapOfTwo N T3 l2 l3) fun v5 T6 =>
  some (v5, T6)
  else
  b2 (x_bestLater N T3) fun v8 T9 =>
  some (v8, T9))
  else
  some (v2, T3))
theorem wx_two_b37 {κ : jK} (hκ : jX κ) (N : Nat) {Γ : jG} (C : jC κ Γ cX0_two 5 RX0 (some .int)) {G : Nat → Nat} (l1 : Int32) (l2 : Int32) (l3 : Int32) {v : Int32} {T' : XS} : ∀ (T : XS), x_two_b37 N l1 l2 l3 T = some (v, T') → J κ Γ (232, 16, 1024, (fun u w' => u = some (.int v) ∧ w' = wX κ G T')) 5 (wX κ G T) 0 0 37 [some (.ref (G 0)), some (.int l1), some (.int l2), some (.int l3), none] [] := by
  intro T h
  rw [x_two_b37] at h
  refine j_aload_n C dX0_two_37 rfl rfl ?_
  refine j_iload_n C dX0_two_38 rfl rfl ?_
  obtain ⟨v2, T3, e1, h⟩ := ob2 h
  refine jx_Wi hκ C (mt_x_layForth hκ N G e1) hG_x_layForth hy_x_layForth rfl rfl dX0_two_39 ⟨(Nat.le_of_ble_eq_true rfl), by decide, Nat.le_of_ble_eq_true rfl, Nat.le_of_ble_eq_true rfl, Nat.le_of_ble_eq_true rfl⟩ rfl ?_
  refine j_istore C dX0_two_42 (by decide) rfl ?_
  refine j_iload C dX0_two_44 rfl ?_
  refine j_if_ge C dX0_two_46 (tgt := 52) (by decide) (fun c => ?_) (fun c => ?_)
  · replace h := ip c h
    refine j_iload_n C dX0_two_52 rfl rfl ?_
    refine j_if_ge C dX0_two_53 (tgt := 63) (by decide) (fun c => ?_) (fun c => ?_)
    · replace h := ip c h
      refine j_aload_n C dX0_two_63 rfl rfl ?_
      refine j_iload_n C dX0_two_64 rfl rfl ?_
      refine j_iload_n C dX0_two_65 rfl rfl ?_
      obtain ⟨v5, T6, e4, h⟩ := ob2 h
      refine jx_Vi hκ C (mt_x_gapOfTwo hκ N G e4) hG_x_gapOfTwo hy_x_gapOfTwo rfl rfl dX0_two_66 (jfit.of (Nat.le_of_ble_eq_true rfl) (by decide) (Nat.le_of_ble_eq_true rfl) (Nat.le_of_ble_eq_true rfl) (Nat.le_of_ble_eq_true rfl)) rfl ?_
      obtain ⟨rfl, rfl⟩ := sp2 h
      exact j_iret C dX0_two_69 (Nat.le_of_ble_eq_true rfl) (Nat.le_of_ble_eq_true rfl) ⟨rfl, rfl⟩
    replace h := im c h
    refine j_aload_n C dX0_two_56 rfl rfl ?_
    obtain ⟨v8, T9, e7, h⟩ := ob2 h
    refine jx_Vi hκ C (mt_x_bestLater hκ N G e7) hG_x_bestLater hy_x_bestLater rfl rfl dX0_two_57 (jfit.of (Nat.le_of_ble_eq_true rfl) (by decide) (Nat.le_of_ble_eq_true rfl) (Nat.le_of_ble_eq_true rfl) (Nat.le_of_ble_eq_true rfl)) rfl ?_
    refine j_goto C dX0_two_60 (tgt := 69) (by decide) ?_
    obtain ⟨rfl, rfl⟩ := sp2 h
    exact j_iret C dX0_two_69 (Nat.le_of_ble_eq_true rfl) (Nat.le_of_ble_eq_true rfl) ⟨rfl, rfl⟩
  replace h := im c h
  refine j_iload C dX0_two_49 rfl ?_
  obtain ⟨rfl, rfl⟩ := sp2 h
  exact j_iret C dX0_two_51 (Nat.le_of_ble_eq_true rfl) (Nat.le_of_ble_eq_true rfl) ⟨rfl, rfl⟩
def x_two (N : Nat) (T : XS) (p1 : Int32) (p2 : Int32) (p3 : Int32) : Option (Int32 × XS) :=
  (x_isShelf p1).bind fun v2 =>
  (if (b2i v2) = 0 then
  some ((-1), T)
  else
  (x_in p2 (-1) ((T.1 1) - 1)).bind fun v4 =>
  (if (b2i v4) = 0 then
  some ((-1), T)
  else
  (if p2 < 0 then
  x_two_b37 N p1 p2 p3 T
  else
  (x_in p3 0 99).bind fun v6 =>
  (if (b2i v6) = 0 then
  some ((-1), T)
  else
  x_two_b37 N p1 p2 p3 T))))
theorem mt_x_two {κ : jK} (hκ : jX κ) (N : Nat) (G : Nat → Nat) {T : XS} {p1 : Int32} {p2 : Int32} {p3 : Int32} {v : Int32} {T' : XS} (h : x_two N T p1 p2 p3 = some (v, T')) : jM κ yX0_two (ws_ yX0_two cX0_two 5 (some .int)) 232 16 1024 [.ref (G 0), .int p1, .int p2, .int p3] (wX κ G T) (fun u w' => u = some (.int v) ∧ w' = wX κ G T') := by
  rw [x_two] at h
  refine jM.of (by decide) rfl (Nat.le_of_ble_eq_true rfl) fun Γ C _ => ?_
  show J κ Γ (232, 16, 1024, (fun u w' => u = some (.int v) ∧ w' = wX κ G T')) 5 (wX κ G T) 0 0 0 [some (.ref (G 0)), some (.int p1), some (.int p2), some (.int p3), none] []
  refine j_iload_n C dX0_two_0 rfl rfl ?_
  obtain ⟨v2, e1, h⟩ := ob h
  refine j_Si hκ.1.1 C (mt_x_isShelf hκ e1) hG_x_isShelf hy_x_isShelf rfl dX0_two_1 (jfit.of (Nat.le_of_ble_eq_true rfl) (by decide) (Nat.le_of_ble_eq_true rfl) (Nat.le_of_ble_eq_true rfl) (Nat.le_of_ble_eq_true rfl)) rfl ?_
  refine j_if_eq C dX0_two_4 (tgt := 35) (by decide) (fun c => ?_) (fun c => ?_)
  · replace h := ip c h
    refine j_iconst C (v := (-1)) dX0_two_35 rfl ?_
    obtain ⟨rfl, rfl⟩ := sp2 h
    exact j_iret C dX0_two_36 (Nat.le_of_ble_eq_true rfl) (Nat.le_of_ble_eq_true rfl) ⟨rfl, rfl⟩
  replace h := im c h
  refine j_iload_n C dX0_two_7 rfl rfl ?_
  refine j_iconst C (v := (-1)) dX0_two_8 rfl ?_
  refine j_aload_n C dX0_two_9 rfl rfl ?_
  refine jx_geti hκ C 1 (by decide) rfl q188 dX0_two_10 ?_
  refine j_iconst C (v := 1) dX0_two_13 rfl ?_
  refine j_isub C dX0_two_14 ?_
  obtain ⟨v4, e3, h⟩ := ob h
  refine j_Si hκ.1.1 C (mt_x_in hκ e3) hG_x_in hy_x_in rfl dX0_two_15 (jfit.of (Nat.le_of_ble_eq_true rfl) (by decide) (Nat.le_of_ble_eq_true rfl) (Nat.le_of_ble_eq_true rfl) (Nat.le_of_ble_eq_true rfl)) rfl ?_
  refine j_if_eq C dX0_two_18 (tgt := 35) (by decide) (fun c => ?_) (fun c => ?_)
  · replace h := ip c h
    refine j_iconst C (v := (-1)) dX0_two_35 rfl ?_
    obtain ⟨rfl, rfl⟩ := sp2 h
    exact j_iret C dX0_two_36 (Nat.le_of_ble_eq_true rfl) (Nat.le_of_ble_eq_true rfl) ⟨rfl, rfl⟩
  replace h := im c h
  refine j_iload_n C dX0_two_21 rfl rfl ?_
  refine j_if_lt C dX0_two_22 (tgt := 37) (by decide) (fun c => ?_) (fun c => ?_)
  · replace h := ip c h
    exact j_sub (wx_two_b37 hκ N C _ _ _ _ h) ⟨rfl, ⟨rfl, ⟨rfl, ⟨rfl, trivial⟩⟩⟩⟩
  replace h := im c h
  refine j_iload_n C dX0_two_25 rfl rfl ?_
  refine j_iconst C (v := 0) dX0_two_26 rfl ?_
  refine j_bipush C (v := 99) dX0_two_27 rfl ?_
  obtain ⟨v6, e5, h⟩ := ob h
  refine j_Si hκ.1.1 C (mt_x_in hκ e5) hG_x_in hy_x_in rfl dX0_two_29 (jfit.of (Nat.le_of_ble_eq_true rfl) (by decide) (Nat.le_of_ble_eq_true rfl) (Nat.le_of_ble_eq_true rfl) (Nat.le_of_ble_eq_true rfl)) rfl ?_
  refine j_if_ne C dX0_two_32 (tgt := 37) (by decide) (fun c => ?_) (fun c => ?_)
  · replace h := im c h
    exact j_sub (wx_two_b37 hκ N C _ _ _ _ h) ⟨rfl, ⟨rfl, ⟨rfl, ⟨rfl, trivial⟩⟩⟩⟩
  replace h := ip c h
  refine j_iconst C (v := (-1)) dX0_two_35 rfl ?_
  obtain ⟨rfl, rfl⟩ := sp2 h
  exact j_iret C dX0_two_36 (Nat.le_of_ble_eq_true rfl) (Nat.le_of_ble_eq_true rfl) ⟨rfl, rfl⟩
/-! arePn -/
def x_arePn (p1 : Int32) : Option Bool :=
  (if p1 < 0 then
  some false
  else
  (if 12 < (p1 / 100) then
  some false
  else
  (if (jrem p1 100) ≤ 0 then
  some false
  else
  some true)))
theorem mt_x_arePn {κ : jK} (hκ : jX κ) {w : jW} {p1 : Int32} {v : Bool} (h : x_arePn p1 = some v) : jM κ yX0_arePn (ws_ yX0_arePn cX0_arePn 1 (some .boolean)) 0 0 0 [.int p1] (w) (fun u w' => u = some (.int (b2i v)) ∧ w' = w) := by
  rw [x_arePn] at h
  refine jM.of (by decide) rfl (Nat.le_of_ble_eq_true rfl) fun Γ C _ => ?_
  show J κ Γ (0, 0, 0, (fun u w' => u = some (.int (b2i v)) ∧ w' = w)) 1 (w) 0 0 0 [some (.int p1)] []
  refine j_iload_n C dX0_arePn_0 rfl rfl ?_
  refine j_if_lt C dX0_arePn_1 (tgt := 24) (by decide) (fun c => ?_) (fun c => ?_)
  · replace h := ip c h
    refine j_iconst C (v := 0) dX0_arePn_24 rfl ?_
    obtain rfl := sp1 h
    exact j_zret C rfl dX0_arePn_25 (Nat.le_of_ble_eq_true rfl) (Nat.le_of_ble_eq_true rfl) ⟨rfl, rfl⟩
  replace h := im c h
  refine j_iload_n C dX0_arePn_4 rfl rfl ?_
  refine j_bipush C (v := 100) dX0_arePn_5 rfl ?_
  refine j_idiv C dX0_arePn_7 (by decide) ?_
  refine j_bipush C (v := 12) dX0_arePn_8 rfl ?_
  refine j_icmp_gt C dX0_arePn_10 (tgt := 24) (by decide) (fun c => ?_) (fun c => ?_)
  · replace h := ip c h
    refine j_iconst C (v := 0) dX0_arePn_24 rfl ?_
    obtain rfl := sp1 h
    exact j_zret C rfl dX0_arePn_25 (Nat.le_of_ble_eq_true rfl) (Nat.le_of_ble_eq_true rfl) ⟨rfl, rfl⟩
  replace h := im c h
  refine j_iload_n C dX0_arePn_13 rfl rfl ?_
  refine j_bipush C (v := 100) dX0_arePn_14 rfl ?_
  refine j_irem C dX0_arePn_16 (by decide) ?_
  refine j_if_le C dX0_arePn_17 (tgt := 24) (by decide) (fun c => ?_) (fun c => ?_)
  · replace h := ip c h
    refine j_iconst C (v := 0) dX0_arePn_24 rfl ?_
    obtain rfl := sp1 h
    exact j_zret C rfl dX0_arePn_25 (Nat.le_of_ble_eq_true rfl) (Nat.le_of_ble_eq_true rfl) ⟨rfl, rfl⟩
  replace h := im c h
  refine j_iconst C (v := 1) dX0_arePn_20 rfl ?_
  refine j_goto C dX0_arePn_21 (tgt := 25) (by decide) ?_
  obtain rfl := sp1 h
  exact j_zret C rfl dX0_arePn_25 (Nat.le_of_ble_eq_true rfl) (Nat.le_of_ble_eq_true rfl) ⟨rfl, rfl⟩
/-! laySeen_23 -/
def x_laySeen_23_b58 (N : Nat) (l1 : Int32) (l4 : Int32) (l5 : Int32) (k40 : XS → Int32 → Option XS) : Nat → XS → Int32 → Option XS
  | 0, _, _ => none
  | n + 1, T, l6 =>
    chk 4000 l5 (
    (if ((T.2.1 15 l5.toNatClampNeg) + l4) ≤ l6 then
    nm (l5 + 1) fun x2 =>
    k40 T x2
    else
    (if 999 < l6 then
    nm (l5 + 1) fun x3 =>
    k40 T x3
    else
    chk 4000 l5 (
    (if (T.2.1 14 l5.toNatClampNeg) = l1 then
    chk 1000 l6 (
    nm (xA T 23 l6.toNatClampNeg 1) fun T6 =>
    nm (l6 + 1) fun x8 =>
    x_laySeen_23_b58 N l1 l4 l5 k40 n T6 x8)
    else
    nm (l5 + 1) fun x5 =>
    k40 T x5)))))
theorem wx_laySeen_23_b58 {κ : jK} (hκ : jX κ) (N : Nat) {Γ : jG} (C : jC κ Γ cX0_laySeen 7 RX0 none) {G : Nat → Nat} (l1 : Int32) (l4 : Int32) (l5 : Int32) (k40 : XS → Int32 → Option XS) {T' : XS} (hk40 : ∀ (T : XS) (l5 : Int32), k40 T l5 = some T' → J κ Γ (5, 0, 0, (fun u w' => u = none ∧ w' = wX κ G T')) 7 (wX κ G T) 0 0 40 [some (.ref (G 0)), some (.int l1), none, some (.ref (G (23 + 1))), some (.int l4), some (.int l5), none] []) : ∀ (n : Nat) (T : XS) (l6 : Int32), x_laySeen_23_b58 N l1 l4 l5 k40 n T l6 = some T' → J κ Γ (5, 0, 0, (fun u w' => u = none ∧ w' = wX κ G T')) 7 (wX κ G T) 0 0 58 [some (.ref (G 0)), some (.int l1), none, some (.ref (G (23 + 1))), some (.int l4), some (.int l5), some (.int l6)] [] := by
  intro n
  induction n with
  | zero => intro _ _ h; cases h
  | succ n ih =>
    intro T l6 h
    rw [x_laySeen_23_b58] at h
    refine j_iload C dX0_laySeen_58 rfl ?_
    refine j_aload_n C dX0_laySeen_60 rfl rfl ?_
    refine jx_geta hκ C 15 (by decide) rfl rfl q204 dX0_laySeen_61 ?_
    refine j_iload C dX0_laySeen_64 rfl ?_
    obtain ⟨b1, h⟩ := chk_some h
    refine jx_iald hκ C 15 rfl rfl b1 dX0_laySeen_66 ?_
    refine j_iload C dX0_laySeen_67 rfl ?_
    refine j_iadd C dX0_laySeen_69 ?_
    refine j_icmp_ge C dX0_laySeen_70 (tgt := 103) (by decide) (fun c => ?_) (fun c => ?_)
    · replace h := ip c h
      refine j_iincN C h dX0_laySeen_103 rfl rfl (by decide) rfl (fun x2 h => ?_)
      refine j_goto C dX0_laySeen_106 (tgt := 40) (by decide) ?_
      exact j_sub (hk40 _ _ h) ⟨rfl, ⟨rfl, ⟨rfl, ⟨rfl, ⟨rfl, trivial⟩⟩⟩⟩⟩
    replace h := im c h
    refine j_iload C dX0_laySeen_73 rfl ?_
    refine j_sipush C (v := 999) dX0_laySeen_75 rfl ?_
    refine j_icmp_gt C dX0_laySeen_78 (tgt := 103) (by decide) (fun c => ?_) (fun c => ?_)
    · replace h := ip c h
      refine j_iincN C h dX0_laySeen_103 rfl rfl (by decide) rfl (fun x3 h => ?_)
      refine j_goto C dX0_laySeen_106 (tgt := 40) (by decide) ?_
      exact j_sub (hk40 _ _ h) ⟨rfl, ⟨rfl, ⟨rfl, ⟨rfl, ⟨rfl, trivial⟩⟩⟩⟩⟩
    replace h := im c h
    refine j_aload_n C dX0_laySeen_81 rfl rfl ?_
    refine jx_geta hκ C 14 (by decide) rfl rfl q203 dX0_laySeen_82 ?_
    refine j_iload C dX0_laySeen_85 rfl ?_
    obtain ⟨b4, h⟩ := chk_some h
    refine jx_iald hκ C 14 rfl rfl b4 dX0_laySeen_87 ?_
    refine j_iload_n C dX0_laySeen_88 rfl rfl ?_
    refine j_icmp_ne C dX0_laySeen_89 (tgt := 103) (by decide) (fun c => ?_) (fun c => ?_)
    · replace h := im c h
      refine j_iincN C h dX0_laySeen_103 rfl rfl (by decide) rfl (fun x5 h => ?_)
      refine j_goto C dX0_laySeen_106 (tgt := 40) (by decide) ?_
      exact j_sub (hk40 _ _ h) ⟨rfl, ⟨rfl, ⟨rfl, ⟨rfl, ⟨rfl, trivial⟩⟩⟩⟩⟩
    replace h := ip c h
    refine j_aload_n C dX0_laySeen_92 rfl rfl ?_
    refine j_iload C dX0_laySeen_93 rfl ?_
    refine j_iconst C (v := 1) dX0_laySeen_95 rfl ?_
    obtain ⟨b7, h⟩ := chk_some h
    refine jx_zastB hκ C 23 rfl rfl true b7 dX0_laySeen_96 ?_
    refine jx_nmT h (fun T6 h => ?_)
    refine j_iincN C h dX0_laySeen_97 rfl rfl (by decide) rfl (fun x8 h => ?_)
    refine j_goto C dX0_laySeen_100 (tgt := 58) (by decide) ?_
    exact j_sub (ih _ _ h) ⟨rfl, ⟨rfl, ⟨rfl, ⟨rfl, ⟨rfl, ⟨rfl, trivial⟩⟩⟩⟩⟩⟩
def x_laySeen_23_b40 (N : Nat) (l1 : Int32) (l4 : Int32) : Nat → XS → Int32 → Option XS
  | 0, _, _ => none
  | n + 1, T, l5 =>
    (if (T.1 17) ≤ l5 then
    some T
    else
    chk 4000 l5 (
    nm (T.2.1 15 l5.toNatClampNeg) fun x2 =>
    x_laySeen_23_b58 N l1 l4 l5 (fun t y5 => x_laySeen_23_b40 N l1 l4 n t y5) N T x2))
theorem wx_laySeen_23_b40 {κ : jK} (hκ : jX κ) (N : Nat) {Γ : jG} (C : jC κ Γ cX0_laySeen 7 RX0 none) {G : Nat → Nat} (l1 : Int32) (l4 : Int32) {T' : XS} : ∀ (n : Nat) (T : XS) (l5 : Int32), x_laySeen_23_b40 N l1 l4 n T l5 = some T' → J κ Γ (5, 0, 0, (fun u w' => u = none ∧ w' = wX κ G T')) 7 (wX κ G T) 0 0 40 [some (.ref (G 0)), some (.int l1), none, some (.ref (G (23 + 1))), some (.int l4), some (.int l5), none] [] := by
  intro n
  induction n with
  | zero => intro _ _ h; cases h
  | succ n ih =>
    intro T l5 h
    rw [x_laySeen_23_b40] at h
    refine j_iload C dX0_laySeen_40 rfl ?_
    refine j_aload_n C dX0_laySeen_42 rfl rfl ?_
    refine jx_geti hκ C 17 (by decide) rfl q206 dX0_laySeen_43 ?_
    refine j_icmp_ge C dX0_laySeen_46 (tgt := 109) (by decide) (fun c => ?_) (fun c => ?_)
    · replace h := ip c h
      obtain rfl := sp1 h
      exact j_vret C dX0_laySeen_109 (Nat.le_of_ble_eq_true rfl) (Nat.le_of_ble_eq_true rfl) ⟨rfl, rfl⟩
    replace h := im c h
    refine j_aload_n C dX0_laySeen_49 rfl rfl ?_
    refine jx_geta hκ C 15 (by decide) rfl rfl q204 dX0_laySeen_50 ?_
    refine j_iload C dX0_laySeen_53 rfl ?_
    obtain ⟨b1, h⟩ := chk_some h
    refine jx_iald hκ C 15 rfl rfl b1 dX0_laySeen_55 ?_
    refine j_nmI h (fun x2 h => ?_)
    refine j_istore C dX0_laySeen_56 (by decide) rfl ?_
    exact j_sub (wx_laySeen_23_b58 hκ N C _ _ _ _ (fun _ _ h => ih _ _ h) N _ _ h) ⟨rfl, ⟨rfl, ⟨rfl, ⟨rfl, ⟨rfl, ⟨rfl, trivial⟩⟩⟩⟩⟩⟩
def x_laySeen_23_b18 (N : Nat) (l1 : Int32) (l4 : Int32) : Nat → XS → Int32 → Option XS
  | 0, _, _ => none
  | n + 1, T, l5 =>
    (if 999 < l5 then
    x_laySeen_23_b40 N l1 l4 N T 0
    else
    chk 1000 l5 (
    nm (xA T 23 l5.toNatClampNeg 0) fun T1 =>
    nm (l5 + 1) fun x3 =>
    x_laySeen_23_b18 N l1 l4 n T1 x3))
theorem wx_laySeen_23_b18 {κ : jK} (hκ : jX κ) (N : Nat) {Γ : jG} (C : jC κ Γ cX0_laySeen 7 RX0 none) {G : Nat → Nat} (l1 : Int32) (l4 : Int32) {T' : XS} : ∀ (n : Nat) (T : XS) (l5 : Int32), x_laySeen_23_b18 N l1 l4 n T l5 = some T' → J κ Γ (5, 0, 0, (fun u w' => u = none ∧ w' = wX κ G T')) 7 (wX κ G T) 0 0 18 [some (.ref (G 0)), some (.int l1), none, some (.ref (G (23 + 1))), some (.int l4), some (.int l5), none] [] := by
  intro n
  induction n with
  | zero => intro _ _ h; cases h
  | succ n ih =>
    intro T l5 h
    rw [x_laySeen_23_b18] at h
    refine j_iload C dX0_laySeen_18 rfl ?_
    refine j_sipush C (v := 999) dX0_laySeen_20 rfl ?_
    refine j_icmp_gt C dX0_laySeen_23 (tgt := 37) (by decide) (fun c => ?_) (fun c => ?_)
    · replace h := ip c h
      refine j_iconst C (v := 0) dX0_laySeen_37 rfl ?_
      refine j_istore C dX0_laySeen_38 (by decide) rfl ?_
      exact j_sub (wx_laySeen_23_b40 hκ N C _ _ N _ _ h) ⟨rfl, ⟨rfl, ⟨rfl, ⟨rfl, ⟨rfl, trivial⟩⟩⟩⟩⟩
    replace h := im c h
    refine j_aload_n C dX0_laySeen_26 rfl rfl ?_
    refine j_iload C dX0_laySeen_27 rfl ?_
    refine j_iconst C (v := 0) dX0_laySeen_29 rfl ?_
    obtain ⟨b2, h⟩ := chk_some h
    refine jx_zastB hκ C 23 rfl rfl false b2 dX0_laySeen_30 ?_
    refine jx_nmT h (fun T1 h => ?_)
    refine j_iincN C h dX0_laySeen_31 rfl rfl (by decide) rfl (fun x3 h => ?_)
    refine j_goto C dX0_laySeen_34 (tgt := 18) (by decide) ?_
    exact j_sub (ih _ _ h) ⟨rfl, ⟨rfl, ⟨rfl, ⟨rfl, ⟨rfl, trivial⟩⟩⟩⟩⟩
def x_laySeen_23 (N : Nat) (T : XS) (p1 : Int32) (p2 : Int32) : Option XS :=
  (x_layDents N T p2).bind fun T3 =>
  nm (jmax 1 (T3.1 5)) fun x4 =>
  x_laySeen_23_b18 N p1 x4 N T3 0
theorem mt_x_laySeen_23 {κ : jK} (hκ : jX κ) (N : Nat) (G : Nat → Nat) {T : XS} {p1 : Int32} {p2 : Int32} {T' : XS} (h : x_laySeen_23 N T p1 p2 = some T') : jM κ yX0_laySeen (ws_ yX0_laySeen cX0_laySeen 7 none) 5 0 0 [.ref (G 0), .int p1, .int p2, .ref (G (23 + 1))] (wX κ G T) (fun u w' => u = none ∧ w' = wX κ G T') := by
  rw [x_laySeen_23] at h
  refine jM.of (by decide) rfl (Nat.le_of_ble_eq_true rfl) fun Γ C _ => ?_
  show J κ Γ (5, 0, 0, (fun u w' => u = none ∧ w' = wX κ G T')) 7 (wX κ G T) 0 0 0 [some (.ref (G 0)), some (.int p1), some (.int p2), some (.ref (G (23 + 1))), none, none, none] []
  refine j_aload_n C dX0_laySeen_0 rfl rfl ?_
  refine j_iload_n C dX0_laySeen_1 rfl rfl ?_
  obtain ⟨T3, e1, h⟩ := ob h
  refine jx_Vv hκ C (mt_x_layDents hκ N G e1) hG_x_layDents hy_x_layDents rfl rfl dX0_laySeen_2 (jfit.of (Nat.le_of_ble_eq_true rfl) (by decide) (Nat.le_of_ble_eq_true rfl) (Nat.le_of_ble_eq_true rfl) (Nat.le_of_ble_eq_true rfl)) rfl ?_
  refine j_iconst C (v := 1) dX0_laySeen_5 rfl ?_
  refine j_aload_n C dX0_laySeen_6 rfl rfl ?_
  refine jx_geti hκ C 5 (by decide) rfl q192 dX0_laySeen_7 ?_
  refine j_mmax C dX0_laySeen_10 q902 q695 q129 q696 (Nat.le_of_ble_eq_true rfl) (Nat.le_of_ble_eq_true rfl) (Nat.le_of_ble_eq_true rfl) (Nat.le_of_ble_eq_true rfl) ?_
  refine j_nmI h (fun x4 h => ?_)
  refine j_istore C dX0_laySeen_13 (by decide) rfl ?_
  refine j_iconst C (v := 0) dX0_laySeen_15 rfl ?_
  refine j_istore C dX0_laySeen_16 (by decide) rfl ?_
  exact j_sub (wx_laySeen_23_b18 hκ N C _ _ N _ _ h) ⟨rfl, ⟨rfl, ⟨rfl, ⟨rfl, ⟨rfl, trivial⟩⟩⟩⟩⟩
/-! laySeen_24 -/
def x_laySeen_24_b58 (N : Nat) (l1 : Int32) (l4 : Int32) (l5 : Int32) (k40 : XS → Int32 → Option XS) : Nat → XS → Int32 → Option XS
  | 0, _, _ => none
  | n + 1, T, l6 =>
    chk 4000 l5 (
    (if ((T.2.1 15 l5.toNatClampNeg) + l4) ≤ l6 then
    nm (l5 + 1) fun x2 =>
    k40 T x2
    else
    (if 999 < l6 then
    nm (l5 + 1) fun x3 =>
    k40 T x3
    else
    chk 4000 l5 (
    (if (T.2.1 14 l5.toNatClampNeg) = l1 then
    chk 1000 l6 (
    nm (xA T 24 l6.toNatClampNeg 1) fun T6 =>
    nm (l6 + 1) fun x8 =>
    x_laySeen_24_b58 N l1 l4 l5 k40 n T6 x8)
    else
    nm (l5 + 1) fun x5 =>
    k40 T x5)))))
theorem wx_laySeen_24_b58 {κ : jK} (hκ : jX κ) (N : Nat) {Γ : jG} (C : jC κ Γ cX0_laySeen 7 RX0 none) {G : Nat → Nat} (l1 : Int32) (l4 : Int32) (l5 : Int32) (k40 : XS → Int32 → Option XS) {T' : XS} (hk40 : ∀ (T : XS) (l5 : Int32), k40 T l5 = some T' → J κ Γ (5, 0, 0, (fun u w' => u = none ∧ w' = wX κ G T')) 7 (wX κ G T) 0 0 40 [some (.ref (G 0)), some (.int l1), none, some (.ref (G (24 + 1))), some (.int l4), some (.int l5), none] []) : ∀ (n : Nat) (T : XS) (l6 : Int32), x_laySeen_24_b58 N l1 l4 l5 k40 n T l6 = some T' → J κ Γ (5, 0, 0, (fun u w' => u = none ∧ w' = wX κ G T')) 7 (wX κ G T) 0 0 58 [some (.ref (G 0)), some (.int l1), none, some (.ref (G (24 + 1))), some (.int l4), some (.int l5), some (.int l6)] [] := by
  intro n
  induction n with
  | zero => intro _ _ h; cases h
  | succ n ih =>
    intro T l6 h
    rw [x_laySeen_24_b58] at h
    refine j_iload C dX0_laySeen_58 rfl ?_
    refine j_aload_n C dX0_laySeen_60 rfl rfl ?_
    refine jx_geta hκ C 15 (by decide) rfl rfl q204 dX0_laySeen_61 ?_
    refine j_iload C dX0_laySeen_64 rfl ?_
    obtain ⟨b1, h⟩ := chk_some h
    refine jx_iald hκ C 15 rfl rfl b1 dX0_laySeen_66 ?_
    refine j_iload C dX0_laySeen_67 rfl ?_
    refine j_iadd C dX0_laySeen_69 ?_
    refine j_icmp_ge C dX0_laySeen_70 (tgt := 103) (by decide) (fun c => ?_) (fun c => ?_)
    · replace h := ip c h
      refine j_iincN C h dX0_laySeen_103 rfl rfl (by decide) rfl (fun x2 h => ?_)
      refine j_goto C dX0_laySeen_106 (tgt := 40) (by decide) ?_
      exact j_sub (hk40 _ _ h) ⟨rfl, ⟨rfl, ⟨rfl, ⟨rfl, ⟨rfl, trivial⟩⟩⟩⟩⟩
    replace h := im c h
    refine j_iload C dX0_laySeen_73 rfl ?_
    refine j_sipush C (v := 999) dX0_laySeen_75 rfl ?_
    refine j_icmp_gt C dX0_laySeen_78 (tgt := 103) (by decide) (fun c => ?_) (fun c => ?_)
    · replace h := ip c h
      refine j_iincN C h dX0_laySeen_103 rfl rfl (by decide) rfl (fun x3 h => ?_)
      refine j_goto C dX0_laySeen_106 (tgt := 40) (by decide) ?_
      exact j_sub (hk40 _ _ h) ⟨rfl, ⟨rfl, ⟨rfl, ⟨rfl, ⟨rfl, trivial⟩⟩⟩⟩⟩
    replace h := im c h
    refine j_aload_n C dX0_laySeen_81 rfl rfl ?_
    refine jx_geta hκ C 14 (by decide) rfl rfl q203 dX0_laySeen_82 ?_
    refine j_iload C dX0_laySeen_85 rfl ?_
    obtain ⟨b4, h⟩ := chk_some h
    refine jx_iald hκ C 14 rfl rfl b4 dX0_laySeen_87 ?_
    refine j_iload_n C dX0_laySeen_88 rfl rfl ?_
    refine j_icmp_ne C dX0_laySeen_89 (tgt := 103) (by decide) (fun c => ?_) (fun c => ?_)
    · replace h := im c h
      refine j_iincN C h dX0_laySeen_103 rfl rfl (by decide) rfl (fun x5 h => ?_)
      refine j_goto C dX0_laySeen_106 (tgt := 40) (by decide) ?_
      exact j_sub (hk40 _ _ h) ⟨rfl, ⟨rfl, ⟨rfl, ⟨rfl, ⟨rfl, trivial⟩⟩⟩⟩⟩
    replace h := ip c h
    refine j_aload_n C dX0_laySeen_92 rfl rfl ?_
    refine j_iload C dX0_laySeen_93 rfl ?_
    refine j_iconst C (v := 1) dX0_laySeen_95 rfl ?_
    obtain ⟨b7, h⟩ := chk_some h
    refine jx_zastB hκ C 24 rfl rfl true b7 dX0_laySeen_96 ?_
    refine jx_nmT h (fun T6 h => ?_)
    refine j_iincN C h dX0_laySeen_97 rfl rfl (by decide) rfl (fun x8 h => ?_)
    refine j_goto C dX0_laySeen_100 (tgt := 58) (by decide) ?_
    exact j_sub (ih _ _ h) ⟨rfl, ⟨rfl, ⟨rfl, ⟨rfl, ⟨rfl, ⟨rfl, trivial⟩⟩⟩⟩⟩⟩
def x_laySeen_24_b40 (N : Nat) (l1 : Int32) (l4 : Int32) : Nat → XS → Int32 → Option XS
  | 0, _, _ => none
  | n + 1, T, l5 =>
    (if (T.1 17) ≤ l5 then
    some T
    else
    chk 4000 l5 (
    nm (T.2.1 15 l5.toNatClampNeg) fun x2 =>
    x_laySeen_24_b58 N l1 l4 l5 (fun t y5 => x_laySeen_24_b40 N l1 l4 n t y5) N T x2))
theorem wx_laySeen_24_b40 {κ : jK} (hκ : jX κ) (N : Nat) {Γ : jG} (C : jC κ Γ cX0_laySeen 7 RX0 none) {G : Nat → Nat} (l1 : Int32) (l4 : Int32) {T' : XS} : ∀ (n : Nat) (T : XS) (l5 : Int32), x_laySeen_24_b40 N l1 l4 n T l5 = some T' → J κ Γ (5, 0, 0, (fun u w' => u = none ∧ w' = wX κ G T')) 7 (wX κ G T) 0 0 40 [some (.ref (G 0)), some (.int l1), none, some (.ref (G (24 + 1))), some (.int l4), some (.int l5), none] [] := by
  intro n
  induction n with
  | zero => intro _ _ h; cases h
  | succ n ih =>
    intro T l5 h
    rw [x_laySeen_24_b40] at h
    refine j_iload C dX0_laySeen_40 rfl ?_
    refine j_aload_n C dX0_laySeen_42 rfl rfl ?_
    refine jx_geti hκ C 17 (by decide) rfl q206 dX0_laySeen_43 ?_
    refine j_icmp_ge C dX0_laySeen_46 (tgt := 109) (by decide) (fun c => ?_) (fun c => ?_)
    · replace h := ip c h
      obtain rfl := sp1 h
      exact j_vret C dX0_laySeen_109 (Nat.le_of_ble_eq_true rfl) (Nat.le_of_ble_eq_true rfl) ⟨rfl, rfl⟩
    replace h := im c h
    refine j_aload_n C dX0_laySeen_49 rfl rfl ?_
    refine jx_geta hκ C 15 (by decide) rfl rfl q204 dX0_laySeen_50 ?_
    refine j_iload C dX0_laySeen_53 rfl ?_
    obtain ⟨b1, h⟩ := chk_some h
    refine jx_iald hκ C 15 rfl rfl b1 dX0_laySeen_55 ?_
    refine j_nmI h (fun x2 h => ?_)
    refine j_istore C dX0_laySeen_56 (by decide) rfl ?_
    exact j_sub (wx_laySeen_24_b58 hκ N C _ _ _ _ (fun _ _ h => ih _ _ h) N _ _ h) ⟨rfl, ⟨rfl, ⟨rfl, ⟨rfl, ⟨rfl, ⟨rfl, trivial⟩⟩⟩⟩⟩⟩
def x_laySeen_24_b18 (N : Nat) (l1 : Int32) (l4 : Int32) : Nat → XS → Int32 → Option XS
  | 0, _, _ => none
  | n + 1, T, l5 =>
    (if 999 < l5 then
    x_laySeen_24_b40 N l1 l4 N T 0
    else
    chk 1000 l5 (
    nm (xA T 24 l5.toNatClampNeg 0) fun T1 =>
    nm (l5 + 1) fun x3 =>
    x_laySeen_24_b18 N l1 l4 n T1 x3))
theorem wx_laySeen_24_b18 {κ : jK} (hκ : jX κ) (N : Nat) {Γ : jG} (C : jC κ Γ cX0_laySeen 7 RX0 none) {G : Nat → Nat} (l1 : Int32) (l4 : Int32) {T' : XS} : ∀ (n : Nat) (T : XS) (l5 : Int32), x_laySeen_24_b18 N l1 l4 n T l5 = some T' → J κ Γ (5, 0, 0, (fun u w' => u = none ∧ w' = wX κ G T')) 7 (wX κ G T) 0 0 18 [some (.ref (G 0)), some (.int l1), none, some (.ref (G (24 + 1))), some (.int l4), some (.int l5), none] [] := by
  intro n
  induction n with
  | zero => intro _ _ h; cases h
  | succ n ih =>
    intro T l5 h
    rw [x_laySeen_24_b18] at h
    refine j_iload C dX0_laySeen_18 rfl ?_
    refine j_sipush C (v := 999) dX0_laySeen_20 rfl ?_
    refine j_icmp_gt C dX0_laySeen_23 (tgt := 37) (by decide) (fun c => ?_) (fun c => ?_)
    · replace h := ip c h
      refine j_iconst C (v := 0) dX0_laySeen_37 rfl ?_
      refine j_istore C dX0_laySeen_38 (by decide) rfl ?_
      exact j_sub (wx_laySeen_24_b40 hκ N C _ _ N _ _ h) ⟨rfl, ⟨rfl, ⟨rfl, ⟨rfl, ⟨rfl, trivial⟩⟩⟩⟩⟩
    replace h := im c h
    refine j_aload_n C dX0_laySeen_26 rfl rfl ?_
    refine j_iload C dX0_laySeen_27 rfl ?_
    refine j_iconst C (v := 0) dX0_laySeen_29 rfl ?_
    obtain ⟨b2, h⟩ := chk_some h
    refine jx_zastB hκ C 24 rfl rfl false b2 dX0_laySeen_30 ?_
    refine jx_nmT h (fun T1 h => ?_)
    refine j_iincN C h dX0_laySeen_31 rfl rfl (by decide) rfl (fun x3 h => ?_)
    refine j_goto C dX0_laySeen_34 (tgt := 18) (by decide) ?_
    exact j_sub (ih _ _ h) ⟨rfl, ⟨rfl, ⟨rfl, ⟨rfl, ⟨rfl, trivial⟩⟩⟩⟩⟩
def x_laySeen_24 (N : Nat) (T : XS) (p1 : Int32) (p2 : Int32) : Option XS :=
  (x_layDents N T p2).bind fun T3 =>
  nm (jmax 1 (T3.1 5)) fun x4 =>
  x_laySeen_24_b18 N p1 x4 N T3 0
theorem mt_x_laySeen_24 {κ : jK} (hκ : jX κ) (N : Nat) (G : Nat → Nat) {T : XS} {p1 : Int32} {p2 : Int32} {T' : XS} (h : x_laySeen_24 N T p1 p2 = some T') : jM κ yX0_laySeen (ws_ yX0_laySeen cX0_laySeen 7 none) 5 0 0 [.ref (G 0), .int p1, .int p2, .ref (G (24 + 1))] (wX κ G T) (fun u w' => u = none ∧ w' = wX κ G T') := by
  rw [x_laySeen_24] at h
  refine jM.of (by decide) rfl (Nat.le_of_ble_eq_true rfl) fun Γ C _ => ?_
  show J κ Γ (5, 0, 0, (fun u w' => u = none ∧ w' = wX κ G T')) 7 (wX κ G T) 0 0 0 [some (.ref (G 0)), some (.int p1), some (.int p2), some (.ref (G (24 + 1))), none, none, none] []
  refine j_aload_n C dX0_laySeen_0 rfl rfl ?_
  refine j_iload_n C dX0_laySeen_1 rfl rfl ?_
  obtain ⟨T3, e1, h⟩ := ob h
  refine jx_Vv hκ C (mt_x_layDents hκ N G e1) hG_x_layDents hy_x_layDents rfl rfl dX0_laySeen_2 (jfit.of (Nat.le_of_ble_eq_true rfl) (by decide) (Nat.le_of_ble_eq_true rfl) (Nat.le_of_ble_eq_true rfl) (Nat.le_of_ble_eq_true rfl)) rfl ?_
  refine j_iconst C (v := 1) dX0_laySeen_5 rfl ?_
  refine j_aload_n C dX0_laySeen_6 rfl rfl ?_
  refine jx_geti hκ C 5 (by decide) rfl q192 dX0_laySeen_7 ?_
  refine j_mmax C dX0_laySeen_10 q902 q695 q129 q696 (Nat.le_of_ble_eq_true rfl) (Nat.le_of_ble_eq_true rfl) (Nat.le_of_ble_eq_true rfl) (Nat.le_of_ble_eq_true rfl) ?_
  refine j_nmI h (fun x4 h => ?_)
  refine j_istore C dX0_laySeen_13 (by decide) rfl ?_
  refine j_iconst C (v := 0) dX0_laySeen_15 rfl ?_
  refine j_istore C dX0_laySeen_16 (by decide) rfl ?_
  exact j_sub (wx_laySeen_24_b18 hκ N C _ _ N _ _ h) ⟨rfl, ⟨rfl, ⟨rfl, ⟨rfl, ⟨rfl, trivial⟩⟩⟩⟩⟩
/-! laySeenBoth -/
def x_laySeenBoth (N : Nat) (T : XS) (p1 : Int32) (p2 : Int32) : Option (Int32 × XS) :=
  b2 (x_layRound N T p1) fun v2 T3 =>
  (if 0 ≤ v2 then
  (x_laySeen_23 N T3 p2 0).bind fun T6 =>
  (x_laySeen_24 N T6 p2 1).bind fun T9 =>
  some (0, T9)
  else
  some (v2, T3))
theorem mt_x_laySeenBoth {κ : jK} (hκ : jX κ) (N : Nat) (G : Nat → Nat) {T : XS} {p1 : Int32} {p2 : Int32} {v : Int32} {T' : XS} (h : x_laySeenBoth N T p1 p2 = some (v, T')) : jM κ yX0_laySeenBoth (ws_ yX0_laySeenBoth cX0_laySeenBoth 4 (some .int)) 231 16 1024 [.ref (G 0), .int p1, .int p2] (wX κ G T) (fun u w' => u = some (.int v) ∧ w' = wX κ G T') := by
  rw [x_laySeenBoth] at h
  refine jM.of (by decide) rfl (Nat.le_of_ble_eq_true rfl) fun Γ C _ => ?_
  show J κ Γ (231, 16, 1024, (fun u w' => u = some (.int v) ∧ w' = wX κ G T')) 4 (wX κ G T) 0 0 0 [some (.ref (G 0)), some (.int p1), some (.int p2), none] []
  refine j_aload_n C dX0_laySeenBoth_0 rfl rfl ?_
  refine j_iload_n C dX0_laySeenBoth_1 rfl rfl ?_
  obtain ⟨v2, T3, e1, h⟩ := ob2 h
  refine jx_Hi hκ C (mt_x_layRound hκ N G e1) hG_x_layRound hy_x_layRound rfl rfl dX0_laySeenBoth_2 ⟨(Nat.le_of_ble_eq_true rfl), by decide, Nat.le_of_ble_eq_true rfl, Nat.le_of_ble_eq_true rfl, Nat.le_of_ble_eq_true rfl⟩ rfl ?_
  refine j_istore_n C dX0_laySeenBoth_5 rfl (by decide) rfl ?_
  refine j_iload_n C dX0_laySeenBoth_6 rfl rfl ?_
  refine j_if_ge C dX0_laySeenBoth_7 (tgt := 12) (by decide) (fun c => ?_) (fun c => ?_)
  · replace h := ip c h
    refine j_aload_n C dX0_laySeenBoth_12 rfl rfl ?_
    refine j_iload_n C dX0_laySeenBoth_13 rfl rfl ?_
    refine j_iconst C (v := 0) dX0_laySeenBoth_14 rfl ?_
    refine j_aload_n C dX0_laySeenBoth_15 rfl rfl ?_
    refine jx_geta hκ C 23 (by decide) rfl rfl q212 dX0_laySeenBoth_16 ?_
    obtain ⟨T6, e4, h⟩ := ob h
    refine jx_Vv hκ C (mt_x_laySeen_23 hκ N G e4) hG_x_laySeen hy_x_laySeen rfl rfl dX0_laySeenBoth_19 (jfit.of (Nat.le_of_ble_eq_true rfl) (by decide) (Nat.le_of_ble_eq_true rfl) (Nat.le_of_ble_eq_true rfl) (Nat.le_of_ble_eq_true rfl)) rfl ?_
    refine j_aload_n C dX0_laySeenBoth_22 rfl rfl ?_
    refine j_iload_n C dX0_laySeenBoth_23 rfl rfl ?_
    refine j_iconst C (v := 1) dX0_laySeenBoth_24 rfl ?_
    refine j_aload_n C dX0_laySeenBoth_25 rfl rfl ?_
    refine jx_geta hκ C 24 (by decide) rfl rfl q213 dX0_laySeenBoth_26 ?_
    obtain ⟨T9, e7, h⟩ := ob h
    refine jx_Vv hκ C (mt_x_laySeen_24 hκ N G e7) hG_x_laySeen hy_x_laySeen rfl rfl dX0_laySeenBoth_29 (jfit.of (Nat.le_of_ble_eq_true rfl) (by decide) (Nat.le_of_ble_eq_true rfl) (Nat.le_of_ble_eq_true rfl) (Nat.le_of_ble_eq_true rfl)) rfl ?_
    refine j_iconst C (v := 0) dX0_laySeenBoth_32 rfl ?_
    obtain ⟨rfl, rfl⟩ := sp2 h
    exact j_iret C dX0_laySeenBoth_33 (Nat.le_of_ble_eq_true rfl) (Nat.le_of_ble_eq_true rfl) ⟨rfl, rfl⟩
  replace h := im c h
  refine j_iload_n C dX0_laySeenBoth_10 rfl rfl ?_
  obtain ⟨rfl, rfl⟩ := sp2 h
  exact j_iret C dX0_laySeenBoth_11 (Nat.le_of_ble_eq_true rfl) (Nat.le_of_ble_eq_true rfl) ⟨rfl, rfl⟩
/-! isQuiet_23 -/
def x_isQuiet_23_b2 (N : Nat) (T : XS) (l1 : Int32) (l2 : Int32) : Nat → Int32 → Option Bool
  | 0, _ => none
  | n + 1, l3 =>
    (if (l1 + l2) ≤ l3 then
    some true
    else
    chk 1000 l3 (
    (if (T.2.1 23 l3.toNatClampNeg) = 0 then
    nm (l3 + 1) fun x2 =>
    x_isQuiet_23_b2 N T l1 l2 n x2
    else
    some false)))
theorem wx_isQuiet_23_b2 {κ : jK} (hκ : jX κ) (N : Nat) {Γ : jG} (C : jC κ Γ cX0_isQuiet 4 RX0 (some .boolean)) {G : Nat → Nat} {T : XS} (l1 : Int32) (l2 : Int32) {v : Bool} : ∀ (n : Nat) (l3 : Int32), x_isQuiet_23_b2 N T l1 l2 n l3 = some v → J κ Γ (0, 0, 0, (fun u w' => u = some (.int (b2i v)) ∧ w' = wX κ G T)) 4 (wX κ G T) 0 0 2 [some (.ref (G (23 + 1))), some (.int l1), some (.int l2), some (.int l3)] [] := by
  intro n
  induction n with
  | zero => intro _ h; cases h
  | succ n ih =>
    intro l3 h
    rw [x_isQuiet_23_b2] at h
    refine j_iload_n C dX0_isQuiet_2 rfl rfl ?_
    refine j_iload_n C dX0_isQuiet_3 rfl rfl ?_
    refine j_iload_n C dX0_isQuiet_4 rfl rfl ?_
    refine j_iadd C dX0_isQuiet_5 ?_
    refine j_icmp_ge C dX0_isQuiet_6 (tgt := 23) (by decide) (fun c => ?_) (fun c => ?_)
    · replace h := ip c h
      refine j_iconst C (v := 1) dX0_isQuiet_23 rfl ?_
      obtain rfl := sp1 h
      exact j_zret C rfl dX0_isQuiet_24 (Nat.le_of_ble_eq_true rfl) (Nat.le_of_ble_eq_true rfl) ⟨rfl, rfl⟩
    replace h := im c h
    refine j_aload_n C dX0_isQuiet_9 rfl rfl ?_
    refine j_iload_n C dX0_isQuiet_10 rfl rfl ?_
    obtain ⟨b1, h⟩ := chk_some h
    refine jx_zald hκ C 23 rfl rfl b1 dX0_isQuiet_11 ?_
    refine j_if_eq C dX0_isQuiet_12 (tgt := 17) (by decide) (fun c => ?_) (fun c => ?_)
    · replace h := ip c h
      refine j_iincN C h dX0_isQuiet_17 rfl rfl (by decide) rfl (fun x2 h => ?_)
      refine j_goto C dX0_isQuiet_20 (tgt := 2) (by decide) ?_
      exact j_sub (ih _ h) ⟨rfl, ⟨rfl, ⟨rfl, ⟨rfl, trivial⟩⟩⟩⟩
    replace h := im c h
    refine j_iconst C (v := 0) dX0_isQuiet_15 rfl ?_
    obtain rfl := sp1 h
    exact j_zret C rfl dX0_isQuiet_16 (Nat.le_of_ble_eq_true rfl) (Nat.le_of_ble_eq_true rfl) ⟨rfl, rfl⟩
def x_isQuiet_23 (N : Nat) (T : XS) (p2 : Int32) (p3 : Int32) : Option Bool :=
  x_isQuiet_23_b2 N T p2 p3 N p2
theorem mt_x_isQuiet_23 {κ : jK} (hκ : jX κ) (N : Nat) (G : Nat → Nat) {T : XS} {p2 : Int32} {p3 : Int32} {v : Bool} (h : x_isQuiet_23 N T p2 p3 = some v) : jM κ yX0_isQuiet (ws_ yX0_isQuiet cX0_isQuiet 4 (some .boolean)) 0 0 0 [.ref (G (23 + 1)), .int p2, .int p3] (wX κ G T) (fun u w' => u = some (.int (b2i v)) ∧ w' = wX κ G T) := by
  rw [x_isQuiet_23] at h
  refine jM.of (by decide) rfl (Nat.le_of_ble_eq_true rfl) fun Γ C _ => ?_
  show J κ Γ (0, 0, 0, (fun u w' => u = some (.int (b2i v)) ∧ w' = wX κ G T)) 4 (wX κ G T) 0 0 0 [some (.ref (G (23 + 1))), some (.int p2), some (.int p3), none] []
  refine j_iload_n C dX0_isQuiet_0 rfl rfl ?_
  refine j_istore_n C dX0_isQuiet_1 rfl (by decide) rfl ?_
  exact j_sub (wx_isQuiet_23_b2 hκ N C _ _ N _ h) ⟨rfl, ⟨rfl, ⟨rfl, ⟨rfl, trivial⟩⟩⟩⟩
