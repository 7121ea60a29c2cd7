set_option maxRecDepth 100000
/-! isQuiet_24 -/
def x_isQuiet_24_b2 (N : Nat) (T : XS) (l1 : Int32) (l2 : Int32) : Nat → Int32 → Option Bool
  | 0, _ => none
  | n + 1, l3 =>
    (if (l1 + l2) ≤ l3 then
    some true
    else
    chk 1000 l3 (
    (if (T.2.1 24 l3.toNatClampNeg) = 0 then
    nm (l3 + 1) fun x2 =>
    x_isQuiet_24_b2 N T l1 l2 n x2
    else
    some false)))
theorem wx_isQuiet_24_b2 {κ : jK} (hκ : jX κ) (N : Nat) {Γ : jG} (C : jC κ Γ cX0_isQuiet 4 RX0 (some .boolean)) {G : Nat → Nat} {T : XS} (l1 : Int32) (l2 : Int32) {v : Bool} : ∀ (n : Nat) (l3 : Int32), x_isQuiet_24_b2 N T l1 l2 n l3 = some v → J κ Γ (0, 0, 0, (fun u w' => u = some (.int (b2i v)) ∧ w' = wX κ G T)) 4 (wX κ G T) 0 0 2 [some (.ref (G (24 + 1))), some (.int l1), some (.int l2), some (.int l3)] [] := by
  intro n
  induction n with
  | zero => intro _ h; cases h
  | succ n ih =>
    intro l3 h
    rw [x_isQuiet_24_b2] at h
    refine j_iload_n C dX0_isQuiet_2 rfl rfl ?_
    refine j_iload_n C dX0_isQuiet_3 rfl rfl ?_
    refine j_iload_n C dX0_isQuiet_4 rfl rfl ?_
    refine j_iadd C dX0_isQuiet_5 ?_
    refine j_icmp_ge C dX0_isQuiet_6 (tgt := 23) (by decide) (fun c => ?_) (fun c => ?_)
    · replace h := ip c h
      refine j_iconst C (v := 1) dX0_isQuiet_23 rfl ?_
      obtain rfl := sp1 h
      exact j_zret C rfl dX0_isQuiet_24 (Nat.le_of_ble_eq_true rfl) (Nat.le_of_ble_eq_true rfl) ⟨rfl, rfl⟩
    replace h := im c h
    refine j_aload_n C dX0_isQuiet_9 rfl rfl ?_
    refine j_iload_n C dX0_isQuiet_10 rfl rfl ?_
    obtain ⟨b1, h⟩ := chk_some h
    refine jx_zald hκ C 24 rfl rfl b1 dX0_isQuiet_11 ?_
    refine j_if_eq C dX0_isQuiet_12 (tgt := 17) (by decide) (fun c => ?_) (fun c => ?_)
    · replace h := ip c h
      refine j_iincN C h dX0_isQuiet_17 rfl rfl (by decide) rfl (fun x2 h => ?_)
      refine j_goto C dX0_isQuiet_20 (tgt := 2) (by decide) ?_
      exact j_sub (ih _ h) ⟨rfl, ⟨rfl, ⟨rfl, ⟨rfl, trivial⟩⟩⟩⟩
    replace h := im c h
    refine j_iconst C (v := 0) dX0_isQuiet_15 rfl ?_
    obtain rfl := sp1 h
    exact j_zret C rfl dX0_isQuiet_16 (Nat.le_of_ble_eq_true rfl) (Nat.le_of_ble_eq_true rfl) ⟨rfl, rfl⟩
def x_isQuiet_24 (N : Nat) (T : XS) (p2 : Int32) (p3 : Int32) : Option Bool :=
  x_isQuiet_24_b2 N T p2 p3 N p2
theorem mt_x_isQuiet_24 {κ : jK} (hκ : jX κ) (N : Nat) (G : Nat → Nat) {T : XS} {p2 : Int32} {p3 : Int32} {v : Bool} (h : x_isQuiet_24 N T p2 p3 = some v) : jM κ yX0_isQuiet (ws_ yX0_isQuiet cX0_isQuiet 4 (some .boolean)) 0 0 0 [.ref (G (24 + 1)), .int p2, .int p3] (wX κ G T) (fun u w' => u = some (.int (b2i v)) ∧ w' = wX κ G T) := by
  rw [x_isQuiet_24] at h
  refine jM.of (by decide) rfl (Nat.le_of_ble_eq_true rfl) fun Γ C _ => ?_
  show J κ Γ (0, 0, 0, (fun u w' => u = some (.int (b2i v)) ∧ w' = wX κ G T)) 4 (wX κ G T) 0 0 0 [some (.ref (G (24 + 1))), some (.int p2), some (.int p3), none] []
  refine j_iload_n C dX0_isQuiet_0 rfl rfl ?_
  refine j_istore_n C dX0_isQuiet_1 rfl (by decide) rfl ?_
  exact j_sub (wx_isQuiet_24_b2 hκ N C _ _ N _ h) ⟨rfl, ⟨rfl, ⟨rfl, ⟨rfl, trivial⟩⟩⟩⟩
/-! successAt -/
def x_successAt_b17 (N : Nat) (T : XS) (l1 : Int32) (l2 : Int32) (l3 : Int32) (s1 : Int32) : Option Int32 :=
  (x_isQuiet_24 N T l1 l3).bind fun v2 =>
  (if (b2i v2) = 0 then
  some (s1 + 0)
  else
  some (s1 + (12 - l2)))
theorem wx_successAt_b17 {κ : jK} (hκ : jX κ) (N : Nat) {Γ : jG} (C : jC κ Γ cX0_successAt 4 RX0 (some .int)) {G : Nat → Nat} {T : XS} (l1 : Int32) (l2 : Int32) (l3 : Int32) {v : Int32} : ∀ (s1 : Int32), x_successAt_b17 N T l1 l2 l3 s1 = some v → J κ Γ (1, 0, 0, (fun u w' => u = some (.int v) ∧ w' = wX κ G T)) 4 (wX κ G T) 0 0 17 [some (.ref (G 0)), some (.int l1), some (.int l2), some (.int l3)] [.int s1] := by
  intro s1 h
  rw [x_successAt_b17] at h
  refine j_aload_n C dX0_successAt_17 rfl rfl ?_
  refine jx_geta hκ C 24 (by decide) rfl rfl q213 dX0_successAt_18 ?_
  refine j_iload_n C dX0_successAt_21 rfl rfl ?_
  refine j_iload_n C dX0_successAt_22 rfl rfl ?_
  obtain ⟨v2, e1, h⟩ := ob h
  refine j_Si hκ.1.1 C (mt_x_isQuiet_24 hκ N G e1) hG_x_isQuiet hy_x_isQuiet rfl dX0_successAt_23 (jfit.of (Nat.le_of_ble_eq_true rfl) (by decide) (Nat.le_of_ble_eq_true rfl) (Nat.le_of_ble_eq_true rfl) (Nat.le_of_ble_eq_true rfl)) rfl ?_
  refine j_if_eq C dX0_successAt_26 (tgt := 36) (by decide) (fun c => ?_) (fun c => ?_)
  · replace h := ip c h
    refine j_iconst C (v := 0) dX0_successAt_36 rfl ?_
    refine j_iadd C dX0_successAt_37 ?_
    obtain rfl := sp1 h
    exact j_iret C dX0_successAt_38 (Nat.le_of_ble_eq_true rfl) (Nat.le_of_ble_eq_true rfl) ⟨rfl, rfl⟩
  replace h := im c h
  refine j_bipush C (v := 12) dX0_successAt_29 rfl ?_
  refine j_iload_n C dX0_successAt_31 rfl rfl ?_
  refine j_isub C dX0_successAt_32 ?_
  refine j_goto C dX0_successAt_33 (tgt := 37) (by decide) ?_
  refine j_iadd C dX0_successAt_37 ?_
  obtain rfl := sp1 h
  exact j_iret C dX0_successAt_38 (Nat.le_of_ble_eq_true rfl) (Nat.le_of_ble_eq_true rfl) ⟨rfl, rfl⟩
def x_successAt (N : Nat) (T : XS) (p1 : Int32) (p2 : Int32) (p3 : Int32) : Option Int32 :=
  (x_isQuiet_23 N T p1 p3).bind fun v2 =>
  (if (b2i v2) = 0 then
  x_successAt_b17 N T p1 p2 p3 0
  else
  x_successAt_b17 N T p1 p2 p3 p2)
theorem mt_x_successAt {κ : jK} (hκ : jX κ) (N : Nat) (G : Nat → Nat) {T : XS} {p1 : Int32} {p2 : Int32} {p3 : Int32} {v : Int32} (h : x_successAt N T p1 p2 p3 = some v) : jM κ yX0_successAt (ws_ yX0_successAt cX0_successAt 4 (some .int)) 1 0 0 [.ref (G 0), .int p1, .int p2, .int p3] (wX κ G T) (fun u w' => u = some (.int v) ∧ w' = wX κ G T) := by
  rw [x_successAt] at h
  refine jM.of (by decide) rfl (Nat.le_of_ble_eq_true rfl) fun Γ C _ => ?_
  show J κ Γ (1, 0, 0, (fun u w' => u = some (.int v) ∧ w' = wX κ G T)) 4 (wX κ G T) 0 0 0 [some (.ref (G 0)), some (.int p1), some (.int p2), some (.int p3)] []
  refine j_aload_n C dX0_successAt_0 rfl rfl ?_
  refine jx_geta hκ C 23 (by decide) rfl rfl q212 dX0_successAt_1 ?_
  refine j_iload_n C dX0_successAt_4 rfl rfl ?_
  refine j_iload_n C dX0_successAt_5 rfl rfl ?_
  obtain ⟨v2, e1, h⟩ := ob h
  refine j_Si hκ.1.1 C (mt_x_isQuiet_23 hκ N G e1) hG_x_isQuiet hy_x_isQuiet rfl dX0_successAt_6 (jfit.of (Nat.le_of_ble_eq_true rfl) (by decide) (Nat.le_of_ble_eq_true rfl) (Nat.le_of_ble_eq_true rfl) (Nat.le_of_ble_eq_true rfl)) rfl ?_
  refine j_if_eq C dX0_successAt_9 (tgt := 16) (by decide) (fun c => ?_) (fun c => ?_)
  · replace h := ip c h
    refine j_iconst C (v := 0) dX0_successAt_16 rfl ?_
    exact j_sub (wx_successAt_b17 hκ N C _ _ _ _ h) ⟨rfl, ⟨rfl, ⟨rfl, ⟨rfl, trivial⟩⟩⟩⟩
  replace h := im c h
  refine j_iload_n C dX0_successAt_12 rfl rfl ?_
  refine j_goto C dX0_successAt_13 (tgt := 17) (by decide) ?_
  exact j_sub (wx_successAt_b17 hκ N C _ _ _ _ h) ⟨rfl, ⟨rfl, ⟨rfl, ⟨rfl, trivial⟩⟩⟩⟩
/-! success -/
def x_success (N : Nat) (T : XS) (p1 : Int32) (p2 : Int32) (p3 : Int32) (p4 : Int32) : Option (Int32 × XS) :=
  (x_isShelf p1).bind fun v2 =>
  (if (b2i v2) = 0 then
  some ((-1), T)
  else
  (x_isPost T p2).bind fun v4 =>
  (if (b2i v4) = 0 then
  some ((-1), T)
  else
  (x_in p3 0 599).bind fun v6 =>
  (if (b2i v6) = 0 then
  some ((-1), T)
  else
  (x_arePn p4).bind fun v8 =>
  (if (b2i v8) = 0 then
  some ((-1), T)
  else
  b2 (x_laySeenBoth N T p1 p2) fun v10 T11 =>
  (if 0 ≤ v10 then
  (x_successAt N T11 p3 (p4 / 100) (jrem p4 100)).bind fun v13 =>
  some (v13, T11)
  else
  some (v10, T11))))))
theorem mt_x_success {κ : jK} (hκ : jX κ) (N : Nat) (G : Nat → Nat) {T : XS} {p1 : Int32} {p2 : Int32} {p3 : Int32} {p4 : Int32} {v : Int32} {T' : XS} (h : x_success N T p1 p2 p3 p4 = some (v, T')) : jM κ yX0_success (ws_ yX0_success cX0_success 6 (some .int)) 232 16 1024 [.ref (G 0), .int p1, .int p2, .int p3, .int p4] (wX κ G T) (fun u w' => u = some (.int v) ∧ w' = wX κ G T') := by
  rw [x_success] at h
  refine jM.of (by decide) rfl (Nat.le_of_ble_eq_true rfl) fun Γ C _ => ?_
  show J κ Γ (232, 16, 1024, (fun u w' => u = some (.int v) ∧ w' = wX κ G T')) 6 (wX κ G T) 0 0 0 [some (.ref (G 0)), some (.int p1), some (.int p2), some (.int p3), some (.int p4), none] []
  refine j_iload_n C dX0_success_0 rfl rfl ?_
  obtain ⟨v2, e1, h⟩ := ob h
  refine j_Si hκ.1.1 C (mt_x_isShelf hκ e1) hG_x_isShelf hy_x_isShelf rfl dX0_success_1 (jfit.of (Nat.le_of_ble_eq_true rfl) (by decide) (Nat.le_of_ble_eq_true rfl) (Nat.le_of_ble_eq_true rfl) (Nat.le_of_ble_eq_true rfl)) rfl ?_
  refine j_if_eq C dX0_success_4 (tgt := 34) (by decide) (fun c => ?_) (fun c => ?_)
  · replace h := ip c h
    refine j_iconst C (v := (-1)) dX0_success_34 rfl ?_
    obtain ⟨rfl, rfl⟩ := sp2 h
    exact j_iret C dX0_success_35 (Nat.le_of_ble_eq_true rfl) (Nat.le_of_ble_eq_true rfl) ⟨rfl, rfl⟩
  replace h := im c h
  refine j_aload_n C dX0_success_7 rfl rfl ?_
  refine j_iload_n C dX0_success_8 rfl rfl ?_
  obtain ⟨v4, e3, h⟩ := ob h
  refine jx_Vi hκ C (mt_x_isPost hκ G e3) hG_x_isPost hy_x_isPost rfl rfl dX0_success_9 (jfit.of (Nat.le_of_ble_eq_true rfl) (by decide) (Nat.le_of_ble_eq_true rfl) (Nat.le_of_ble_eq_true rfl) (Nat.le_of_ble_eq_true rfl)) rfl ?_
  refine j_if_eq C dX0_success_12 (tgt := 34) (by decide) (fun c => ?_) (fun c => ?_)
  · replace h := ip c h
    refine j_iconst C (v := (-1)) dX0_success_34 rfl ?_
    obtain ⟨rfl, rfl⟩ := sp2 h
    exact j_iret C dX0_success_35 (Nat.le_of_ble_eq_true rfl) (Nat.le_of_ble_eq_true rfl) ⟨rfl, rfl⟩
  replace h := im c h
  refine j_iload_n C dX0_success_15 rfl rfl ?_
  refine j_iconst C (v := 0) dX0_success_16 rfl ?_
  refine j_sipush C (v := 599) dX0_success_17 rfl ?_
  obtain ⟨v6, e5, h⟩ := ob h
  refine j_Si hκ.1.1 C (mt_x_in hκ e5) hG_x_in hy_x_in rfl dX0_success_20 (jfit.of (Nat.le_of_ble_eq_true rfl) (by decide) (Nat.le_of_ble_eq_true rfl) (Nat.le_of_ble_eq_true rfl) (Nat.le_of_ble_eq_true rfl)) rfl ?_
  refine j_if_eq C dX0_success_23 (tgt := 34) (by decide) (fun c => ?_) (fun c => ?_)
  · replace h := ip c h
    refine j_iconst C (v := (-1)) dX0_success_34 rfl ?_
    obtain ⟨rfl, rfl⟩ := sp2 h
    exact j_iret C dX0_success_35 (Nat.le_of_ble_eq_true rfl) (Nat.le_of_ble_eq_true rfl) ⟨rfl, rfl⟩
  replace h := im c h
  refine j_iload C dX0_success_26 rfl ?_
  obtain ⟨v8, e7, h⟩ := ob h
  refine j_Si hκ.1.1 C (mt_x_arePn hκ e7) hG_x_arePn hy_x_arePn rfl dX0_success_28 (jfit.of (Nat.le_of_ble_eq_true rfl) (by decide) (Nat.le_of_ble_eq_true rfl) (Nat.le_of_ble_eq_true rfl) (Nat.le_of_ble_eq_true rfl)) rfl ?_
  refine j_if_ne C dX0_success_31 (tgt := 36) (by decide) (fun c => ?_) (fun c => ?_)
  · replace h := im c h
    refine j_aload_n C dX0_success_36 rfl rfl ?_
    refine j_iload_n C dX0_success_37 rfl rfl ?_
    refine j_iload_n C dX0_success_38 rfl rfl ?_
    obtain ⟨v10, T11, e9, h⟩ := ob2 h
    refine jx_Wi hκ C (mt_x_laySeenBoth hκ N G e9) hG_x_laySeenBoth hy_x_laySeenBoth rfl rfl dX0_success_39 ⟨(Nat.le_of_ble_eq_true rfl), by decide, Nat.le_of_ble_eq_true rfl, Nat.le_of_ble_eq_true rfl, Nat.le_of_ble_eq_true rfl⟩ rfl ?_
    refine j_istore C dX0_success_42 (by decide) rfl ?_
    refine j_iload C dX0_success_44 rfl ?_
    refine j_if_ge C dX0_success_46 (tgt := 54) (by decide) (fun c => ?_) (fun c => ?_)
    · replace h := ip c h
      refine j_aload_n C dX0_success_54 rfl rfl ?_
      refine j_iload_n C dX0_success_55 rfl rfl ?_
      refine j_iload C dX0_success_56 rfl ?_
      refine j_bipush C (v := 100) dX0_success_58 rfl ?_
      refine j_idiv C dX0_success_60 (by decide) ?_
      refine j_iload C dX0_success_61 rfl ?_
      refine j_bipush C (v := 100) dX0_success_63 rfl ?_
      refine j_irem C dX0_success_65 (by decide) ?_
      obtain ⟨v13, e12, h⟩ := ob h
      refine jx_Vi hκ C (mt_x_successAt hκ N G e12) hG_x_successAt hy_x_successAt rfl rfl dX0_success_66 (jfit.of (Nat.le_of_ble_eq_true rfl) (by decide) (Nat.le_of_ble_eq_true rfl) (Nat.le_of_ble_eq_true rfl) (Nat.le_of_ble_eq_true rfl)) rfl ?_
      obtain ⟨rfl, rfl⟩ := sp2 h
      exact j_iret C dX0_success_69 (Nat.le_of_ble_eq_true rfl) (Nat.le_of_ble_eq_true rfl) ⟨rfl, rfl⟩
    replace h := im c h
    refine j_iload C dX0_success_49 rfl ?_
    refine j_goto C dX0_success_51 (tgt := 69) (by decide) ?_
    obtain ⟨rfl, rfl⟩ := sp2 h
    exact j_iret C dX0_success_69 (Nat.le_of_ble_eq_true rfl) (Nat.le_of_ble_eq_true rfl) ⟨rfl, rfl⟩
  replace h := ip c h
  refine j_iconst C (v := (-1)) dX0_success_34 rfl ?_
  obtain ⟨rfl, rfl⟩ := sp2 h
  exact j_iret C dX0_success_35 (Nat.le_of_ble_eq_true rfl) (Nat.le_of_ble_eq_true rfl) ⟨rfl, rfl⟩
/-! bestTime -/
def x_bestTime_b5 (N : Nat) (T : XS) (l1 : Int32) (l2 : Int32) : Nat → Int32 → Int32 → Option Int32
  | 0, _, _ => none
  | n + 1, l3, l4 =>
    (if 599 < l4 then
    some l3
    else
    (x_successAt N T l4 l1 l2).bind fun v2 =>
    (x_successAt N T l3 l1 l2).bind fun v4 =>
    (if v2 ≤ v4 then
    nm (l4 + 1) fun x5 =>
    x_bestTime_b5 N T l1 l2 n l3 x5
    else
    nm (l4 + 1) fun x6 =>
    x_bestTime_b5 N T l1 l2 n l4 x6))
theorem wx_bestTime_b5 {κ : jK} (hκ : jX κ) (N : Nat) {Γ : jG} (C : jC κ Γ cX0_bestTime 5 RX0 (some .int)) {G : Nat → Nat} {T : XS} (l1 : Int32) (l2 : Int32) {v : Int32} : ∀ (n : Nat) (l3 : Int32) (l4 : Int32), x_bestTime_b5 N T l1 l2 n l3 l4 = some v → J κ Γ (2, 0, 0, (fun u w' => u = some (.int v) ∧ w' = wX κ G T)) 5 (wX κ G T) 0 0 5 [some (.ref (G 0)), some (.int l1), some (.int l2), some (.int l3), some (.int l4)] [] := by
  intro n
  induction n with
  | zero => intro _ _ h; cases h
  | succ n ih =>
    intro l3 l4 h
    rw [x_bestTime_b5] at h
    refine j_iload C dX0_bestTime_5 rfl ?_
    refine j_sipush C (v := 599) dX0_bestTime_7 rfl ?_
    refine j_icmp_gt C dX0_bestTime_10 (tgt := 40) (by decide) (fun c => ?_) (fun c => ?_)
    · replace h := ip c h
      refine j_iload_n C dX0_bestTime_40 rfl rfl ?_
      obtain rfl := sp1 h
      exact j_iret C dX0_bestTime_41 (Nat.le_of_ble_eq_true rfl) (Nat.le_of_ble_eq_true rfl) ⟨rfl, rfl⟩
    replace h := im c h
    refine j_aload_n C dX0_bestTime_13 rfl rfl ?_
    refine j_iload C dX0_bestTime_14 rfl ?_
    refine j_iload_n C dX0_bestTime_16 rfl rfl ?_
    refine j_iload_n C dX0_bestTime_17 rfl rfl ?_
    obtain ⟨v2, e1, h⟩ := ob h
    refine jx_Vi hκ C (mt_x_successAt hκ N G e1) hG_x_successAt hy_x_successAt rfl rfl dX0_bestTime_18 (jfit.of (Nat.le_of_ble_eq_true rfl) (by decide) (Nat.le_of_ble_eq_true rfl) (Nat.le_of_ble_eq_true rfl) (Nat.le_of_ble_eq_true rfl)) rfl ?_
    refine j_aload_n C dX0_bestTime_21 rfl rfl ?_
    refine j_iload_n C dX0_bestTime_22 rfl rfl ?_
    refine j_iload_n C dX0_bestTime_23 rfl rfl ?_
    refine j_iload_n C dX0_bestTime_24 rfl rfl ?_
    obtain ⟨v4, e3, h⟩ := ob h
    refine jx_Vi hκ C (mt_x_successAt hκ N G e3) hG_x_successAt hy_x_successAt rfl rfl dX0_bestTime_25 (jfit.of (Nat.le_of_ble_eq_true rfl) (by decide) (Nat.le_of_ble_eq_true rfl) (Nat.le_of_ble_eq_true rfl) (Nat.le_of_ble_eq_true rfl)) rfl ?_
    refine j_icmp_le C dX0_bestTime_28 (tgt := 34) (by decide) (fun c => ?_) (fun c => ?_)
    · replace h := ip c h
      refine j_iincN C h dX0_bestTime_34 rfl rfl (by decide) rfl (fun x5 h => ?_)
      refine j_goto C dX0_bestTime_37 (tgt := 5) (by decide) ?_
      exact j_sub (ih _ _ h) ⟨rfl, ⟨rfl, ⟨rfl, ⟨rfl, ⟨rfl, trivial⟩⟩⟩⟩⟩
    replace h := im c h
    refine j_iload C dX0_bestTime_31 rfl ?_
    refine j_istore_n C dX0_bestTime_33 rfl (by decide) rfl ?_
    refine j_iincN C h dX0_bestTime_34 rfl rfl (by decide) rfl (fun x6 h => ?_)
    refine j_goto C dX0_bestTime_37 (tgt := 5) (by decide) ?_
    exact j_sub (ih _ _ h) ⟨rfl, ⟨rfl, ⟨rfl, ⟨rfl, ⟨rfl, trivial⟩⟩⟩⟩⟩
def x_bestTime (N : Nat) (T : XS) (p1 : Int32) (p2 : Int32) : Option Int32 :=
  x_bestTime_b5 N T p1 p2 N 0 1
theorem mt_x_bestTime {κ : jK} (hκ : jX κ) (N : Nat) (G : Nat → Nat) {T : XS} {p1 : Int32} {p2 : Int32} {v : Int32} (h : x_bestTime N T p1 p2 = some v) : jM κ yX0_bestTime (ws_ yX0_bestTime cX0_bestTime 5 (some .int)) 2 0 0 [.ref (G 0), .int p1, .int p2] (wX κ G T) (fun u w' => u = some (.int v) ∧ w' = wX κ G T) := by
  rw [x_bestTime] at h
  refine jM.of (by decide) rfl (Nat.le_of_ble_eq_true rfl) fun Γ C _ => ?_
  show J κ Γ (2, 0, 0, (fun u w' => u = some (.int v) ∧ w' = wX κ G T)) 5 (wX κ G T) 0 0 0 [some (.ref (G 0)), some (.int p1), some (.int p2), none, none] []
  refine j_iconst C (v := 0) dX0_bestTime_0 rfl ?_
  refine j_istore_n C dX0_bestTime_1 rfl (by decide) rfl ?_
  refine j_iconst C (v := 1) dX0_bestTime_2 rfl ?_
  refine j_istore C dX0_bestTime_3 (by decide) rfl ?_
  exact j_sub (wx_bestTime_b5 hκ N C _ _ N _ _ h) ⟨rfl, ⟨rfl, ⟨rfl, ⟨rfl, ⟨rfl, trivial⟩⟩⟩⟩⟩
/-! bestMinute -/
def x_bestMinute (N : Nat) (T : XS) (p1 : Int32) (p2 : Int32) (p3 : Int32) (p4 : Int32) : Option (Int32 × XS) :=
  (x_isShelf p1).bind fun v2 =>
  (if (b2i v2) = 0 then
  some ((-1), T)
  else
  (x_isPost T p2).bind fun v4 =>
  (if (b2i v4) = 0 then
  some ((-1), T)
  else
  (x_arePn p3).bind fun v6 =>
  (if (b2i v6) = 0 then
  some ((-1), T)
  else
  (x_in p4 0 1).bind fun v8 =>
  (if (b2i v8) = 0 then
  some ((-1), T)
  else
  b2 (x_laySeenBoth N T p1 p2) fun v10 T11 =>
  (if 0 ≤ v10 then
  (x_bestTime N T11 (p3 / 100) (jrem p3 100)).bind fun v13 =>
  (if p4 = 0 then
  some (v13, T11)
  else
  (x_successAt N T11 v13 (p3 / 100) (jrem p3 100)).bind fun v15 =>
  some (v15, T11))
  else
  some (v10, T11))))))
theorem mt_x_bestMinute {κ : jK} (hκ : jX κ) (N : Nat) (G : Nat → Nat) {T : XS} {p1 : Int32} {p2 : Int32} {p3 : Int32} {p4 : Int32} {v : Int32} {T' : XS} (h : x_bestMinute N T p1 p2 p3 p4 = some (v, T')) : jM κ yX0_bestMinute (ws_ yX0_bestMinute cX0_bestMinute 7 (some .int)) 232 16 1024 [.ref (G 0), .int p1, .int p2, .int p3, .int p4] (wX κ G T) (fun u w' => u = some (.int v) ∧ w' = wX κ G T') := by
  rw [x_bestMinute] at h
  refine jM.of (by decide) rfl (Nat.le_of_ble_eq_true rfl) fun Γ C _ => ?_
  show J κ Γ (232, 16, 1024, (fun u w' => u = some (.int v) ∧ w' = wX κ G T')) 7 (wX κ G T) 0 0 0 [some (.ref (G 0)), some (.int p1), some (.int p2), some (.int p3), some (.int p4), none, none] []
  refine j_iload_n C dX0_bestMinute_0 rfl rfl ?_
  obtain ⟨v2, e1, h⟩ := ob h
  refine j_Si hκ.1.1 C (mt_x_isShelf hκ e1) hG_x_isShelf hy_x_isShelf rfl dX0_bestMinute_1 (jfit.of (Nat.le_of_ble_eq_true rfl) (by decide) (Nat.le_of_ble_eq_true rfl) (Nat.le_of_ble_eq_true rfl) (Nat.le_of_ble_eq_true rfl)) rfl ?_
  refine j_if_eq C dX0_bestMinute_4 (tgt := 32) (by decide) (fun c => ?_) (fun c => ?_)
  · replace h := ip c h
    refine j_iconst C (v := (-1)) dX0_bestMinute_32 rfl ?_
    obtain ⟨rfl, rfl⟩ := sp2 h
    exact j_iret C dX0_bestMinute_33 (Nat.le_of_ble_eq_true rfl) (Nat.le_of_ble_eq_true rfl) ⟨rfl, rfl⟩
  replace h := im c h
  refine j_aload_n C dX0_bestMinute_7 rfl rfl ?_
  refine j_iload_n C dX0_bestMinute_8 rfl rfl ?_
  obtain ⟨v4, e3, h⟩ := ob h
  refine jx_Vi hκ C (mt_x_isPost hκ G e3) hG_x_isPost hy_x_isPost rfl rfl dX0_bestMinute_9 (jfit.of (Nat.le_of_ble_eq_true rfl) (by decide) (Nat.le_of_ble_eq_true rfl) (Nat.le_of_ble_eq_true rfl) (Nat.le_of_ble_eq_true rfl)) rfl ?_
  refine j_if_eq C dX0_bestMinute_12 (tgt := 32) (by decide) (fun c => ?_) (fun c => ?_)
  · replace h := ip c h
    refine j_iconst C (v := (-1)) dX0_bestMinute_32 rfl ?_
    obtain ⟨rfl, rfl⟩ := sp2 h
    exact j_iret C dX0_bestMinute_33 (Nat.le_of_ble_eq_true rfl) (Nat.le_of_ble_eq_true rfl) ⟨rfl, rfl⟩
  replace h := im c h
  refine j_iload_n C dX0_bestMinute_15 rfl rfl ?_
  obtain ⟨v6, e5, h⟩ := ob h
  refine j_Si hκ.1.1 C (mt_x_arePn hκ e5) hG_x_arePn hy_x_arePn rfl dX0_bestMinute_16 (jfit.of (Nat.le_of_ble_eq_true rfl) (by decide) (Nat.le_of_ble_eq_true rfl) (Nat.le_of_ble_eq_true rfl) (Nat.le_of_ble_eq_true rfl)) rfl ?_
  refine j_if_eq C dX0_bestMinute_19 (tgt := 32) (by decide) (fun c => ?_) (fun c => ?_)
  · replace h := ip c h
    refine j_iconst C (v := (-1)) dX0_bestMinute_32 rfl ?_
    obtain ⟨rfl, rfl⟩ := sp2 h
    exact j_iret C dX0_bestMinute_33 (Nat.le_of_ble_eq_true rfl) (Nat.le_of_ble_eq_true rfl) ⟨rfl, rfl⟩
  replace h := im c h
  refine j_iload C dX0_bestMinute_22 rfl ?_
  refine j_iconst C (v := 0) dX0_bestMinute_24 rfl ?_
  refine j_iconst C (v := 1) dX0_bestMinute_25 rfl ?_
  obtain ⟨v8, e7, h⟩ := ob h
  refine j_Si hκ.1.1 C (mt_x_in hκ e7) hG_x_in hy_x_in rfl dX0_bestMinute_26 (jfit.of (Nat.le_of_ble_eq_true rfl) (by decide) (Nat.le_of_ble_eq_true rfl) (Nat.le_of_ble_eq_true rfl) (Nat.le_of_ble_eq_true rfl)) rfl ?_
  refine j_if_ne C dX0_bestMinute_29 (tgt := 34) (by decide) (fun c => ?_) (fun c => ?_)
  · replace h := im c h
    refine j_aload_n C dX0_bestMinute_34 rfl rfl ?_
    refine j_iload_n C dX0_bestMinute_35 rfl rfl ?_
    refine j_iload_n C dX0_bestMinute_36 rfl rfl ?_
    obtain ⟨v10, T11, e9, h⟩ := ob2 h
    refine jx_Wi hκ C (mt_x_laySeenBoth hκ N G e9) hG_x_laySeenBoth hy_x_laySeenBoth rfl rfl dX0_bestMinute_37 ⟨(Nat.le_of_ble_eq_true rfl), by decide, Nat.le_of_ble_eq_true rfl, Nat.le_of_ble_eq_true rfl, Nat.le_of_ble_eq_true rfl⟩ rfl ?_
    refine j_istore C dX0_bestMinute_40 (by decide) rfl ?_
    refine j_iload C dX0_bestMinute_42 rfl ?_
    refine j_if_ge C dX0_bestMinute_44 (tgt := 50) (by decide) (fun c => ?_) (fun c => ?_)
    · replace h := ip c h
      refine j_aload_n C dX0_bestMinute_50 rfl rfl ?_
      refine j_iload_n C dX0_bestMinute_51 rfl rfl ?_
      refine j_bipush C (v := 100) dX0_bestMinute_52 rfl ?_
      refine j_idiv C dX0_bestMinute_54 (by decide) ?_
      refine j_iload_n C dX0_bestMinute_55 rfl rfl ?_
      refine j_bipush C (v := 100) dX0_bestMinute_56 rfl ?_
      refine j_irem C dX0_bestMinute_58 (by decide) ?_
      obtain ⟨v13, e12, h⟩ := ob h
      refine jx_Vi hκ C (mt_x_bestTime hκ N G e12) hG_x_bestTime hy_x_bestTime rfl rfl dX0_bestMinute_59 (jfit.of (Nat.le_of_ble_eq_true rfl) (by decide) (Nat.le_of_ble_eq_true rfl) (Nat.le_of_ble_eq_true rfl) (Nat.le_of_ble_eq_true rfl)) rfl ?_
      refine j_istore C dX0_bestMinute_62 (by decide) rfl ?_
      refine j_iload C dX0_bestMinute_64 rfl ?_
      refine j_if_ne C dX0_bestMinute_66 (tgt := 74) (by decide) (fun c => ?_) (fun c => ?_)
      · replace h := im c h
        refine j_aload_n C dX0_bestMinute_74 rfl rfl ?_
        refine j_iload C dX0_bestMinute_75 rfl ?_
        refine j_iload_n C dX0_bestMinute_77 rfl rfl ?_
        refine j_bipush C (v := 100) dX0_bestMinute_78 rfl ?_
        refine j_idiv C dX0_bestMinute_80 (by decide) ?_
        refine j_iload_n C dX0_bestMinute_81 rfl rfl ?_
        refine j_bipush C (v := 100) dX0_bestMinute_82 rfl ?_
        refine j_irem C dX0_bestMinute_84 (by decide) ?_
        obtain ⟨v15, e14, h⟩ := ob h
        refine jx_Vi hκ C (mt_x_successAt hκ N G e14) hG_x_successAt hy_x_successAt rfl rfl dX0_bestMinute_85 (jfit.of (Nat.le_of_ble_eq_true rfl) (by decide) (Nat.le_of_ble_eq_true rfl) (Nat.le_of_ble_eq_true rfl) (Nat.le_of_ble_eq_true rfl)) rfl ?_
        obtain ⟨rfl, rfl⟩ := sp2 h
        exact j_iret C dX0_bestMinute_88 (Nat.le_of_ble_eq_true rfl) (Nat.le_of_ble_eq_true rfl) ⟨rfl, rfl⟩
      replace h := ip c h
      refine j_iload C dX0_bestMinute_69 rfl ?_
      refine j_goto C dX0_bestMinute_71 (tgt := 88) (by decide) ?_
      obtain ⟨rfl, rfl⟩ := sp2 h
      exact j_iret C dX0_bestMinute_88 (Nat.le_of_ble_eq_true rfl) (Nat.le_of_ble_eq_true rfl) ⟨rfl, rfl⟩
    replace h := im c h
    refine j_iload C dX0_bestMinute_47 rfl ?_
    obtain ⟨rfl, rfl⟩ := sp2 h
    exact j_iret C dX0_bestMinute_49 (Nat.le_of_ble_eq_true rfl) (Nat.le_of_ble_eq_true rfl) ⟨rfl, rfl⟩
  replace h := ip c h
  refine j_iconst C (v := (-1)) dX0_bestMinute_32 rfl ?_
  obtain ⟨rfl, rfl⟩ := sp2 h
  exact j_iret C dX0_bestMinute_33 (Nat.le_of_ble_eq_true rfl) (Nat.le_of_ble_eq_true rfl) ⟨rfl, rfl⟩
/-! mix -/
def x_mix_b50 (N : Nat) (l3 : Int32) : Nat → XS → Int32 → Int32 → Int32 → Option (Int32 × XS)
  | 0, _, _, _, _ => none
  | n + 1, T, l5, l6, l7 =>
    (if 12 < l7 then
    some (l5, T)
    else
    (x_bestTime N T l7 l3).bind fun v2 =>
    (x_successAt N T v2 l7 l3).bind fun v4 =>
    (if l5 < 0 then
    nm (l7 + 1) fun x5 =>
    x_mix_b50 N l3 n T l7 v4 x5
    else
    (if v4 < l6 then
    nm (l7 + 1) fun x6 =>
    x_mix_b50 N l3 n T l7 v4 x6
    else
    nm (l7 + 1) fun x7 =>
    x_mix_b50 N l3 n T l5 l6 x7)))
theorem wx_mix_b50 {κ : jK} (hκ : jX κ) (N : Nat) {Γ : jG} (C : jC κ Γ cX0_mix 9 RX0 (some .int)) {G : Nat → Nat} (l3 : Int32) {v : Int32} {T' : XS} : ∀ (n : Nat) (T : XS) (l5 : Int32) (l6 : Int32) (l7 : Int32), x_mix_b50 N l3 n T l5 l6 l7 = some (v, T') → J κ Γ (232, 16, 1024, (fun u w' => u = some (.int v) ∧ w' = wX κ G T')) 9 (wX κ G T) 16 1024 50 [some (.ref (G 0)), none, none, some (.int l3), none, some (.int l5), some (.int l6), some (.int l7), none] [] := by
  intro n
  induction n with
  | zero => intro _ _ _ _ h; cases h
  | succ n ih =>
    intro T l5 l6 l7 h
    rw [x_mix_b50] at h
    refine j_iload C dX0_mix_50 rfl ?_
    refine j_bipush C (v := 12) dX0_mix_52 rfl ?_
    refine j_icmp_gt C dX0_mix_54 (tgt := 102) (by decide) (fun c => ?_) (fun c => ?_)
    · replace h := ip c h
      refine j_iload C dX0_mix_102 rfl ?_
      obtain ⟨rfl, rfl⟩ := sp2 h
      exact j_iret C dX0_mix_104 (Nat.le_of_ble_eq_true rfl) (Nat.le_of_ble_eq_true rfl) ⟨rfl, rfl⟩
    replace h := im c h
    refine j_aload_n C dX0_mix_57 rfl rfl ?_
    refine j_aload_n C dX0_mix_58 rfl rfl ?_
    refine j_iload C dX0_mix_59 rfl ?_
    refine j_iload_n C dX0_mix_61 rfl rfl ?_
    obtain ⟨v2, e1, h⟩ := ob h
    refine jx_Vi hκ C (mt_x_bestTime hκ N G e1) hG_x_bestTime hy_x_bestTime rfl rfl dX0_mix_62 (jfit.of (Nat.le_of_ble_eq_true rfl) (by decide) (Nat.le_of_ble_eq_true rfl) (Nat.le_of_ble_eq_true rfl) (Nat.le_of_ble_eq_true rfl)) rfl ?_
    refine j_iload C dX0_mix_65 rfl ?_
    refine j_iload_n C dX0_mix_67 rfl rfl ?_
    obtain ⟨v4, e3, h⟩ := ob h
    refine jx_Vi hκ C (mt_x_successAt hκ N G e3) hG_x_successAt hy_x_successAt rfl rfl dX0_mix_68 (jfit.of (Nat.le_of_ble_eq_true rfl) (by decide) (Nat.le_of_ble_eq_true rfl) (Nat.le_of_ble_eq_true rfl) (Nat.le_of_ble_eq_true rfl)) rfl ?_
    refine j_istore C dX0_mix_71 (by decide) rfl ?_
    refine j_iload C dX0_mix_73 rfl ?_
    refine j_if_lt C dX0_mix_75 (tgt := 88) (by decide) (fun c => ?_) (fun c => ?_)
    · replace h := ip c h
      refine j_iload C dX0_mix_88 rfl ?_
      refine j_istore C dX0_mix_90 (by decide) rfl ?_
      refine j_iload C dX0_mix_92 rfl ?_
      refine j_istore C dX0_mix_94 (by decide) rfl ?_
      refine j_iincN C h dX0_mix_96 rfl rfl (by decide) rfl (fun x5 h => ?_)
      refine j_goto C dX0_mix_99 (tgt := 50) (by decide) ?_
      exact j_sub (ih _ _ _ _ h) ⟨rfl, ⟨rfl, ⟨rfl, ⟨rfl, ⟨rfl, trivial⟩⟩⟩⟩⟩
    replace h := im c h
    refine j_iload C dX0_mix_78 rfl ?_
    refine j_iload C dX0_mix_80 rfl ?_
    refine j_icmp_lt C dX0_mix_82 (tgt := 88) (by decide) (fun c => ?_) (fun c => ?_)
    · replace h := ip c h
      refine j_iload C dX0_mix_88 rfl ?_
      refine j_istore C dX0_mix_90 (by decide) rfl ?_
      refine j_iload C dX0_mix_92 rfl ?_
      refine j_istore C dX0_mix_94 (by decide) rfl ?_
      refine j_iincN C h dX0_mix_96 rfl rfl (by decide) rfl (fun x6 h => ?_)
      refine j_goto C dX0_mix_99 (tgt := 50) (by decide) ?_
      exact j_sub (ih _ _ _ _ h) ⟨rfl, ⟨rfl, ⟨rfl, ⟨rfl, ⟨rfl, trivial⟩⟩⟩⟩⟩
    replace h := im c h
    refine j_goto C dX0_mix_85 (tgt := 96) (by decide) ?_
    refine j_iincN C h dX0_mix_96 rfl rfl (by decide) rfl (fun x7 h => ?_)
    refine j_goto C dX0_mix_99 (tgt := 50) (by decide) ?_
    exact j_sub (ih _ _ _ _ h) ⟨rfl, ⟨rfl, ⟨rfl, ⟨rfl, ⟨rfl, trivial⟩⟩⟩⟩⟩
def x_mix (N : Nat) (T : XS) (p1 : Int32) (p2 : Int32) (p3 : Int32) : Option (Int32 × XS) :=
  (x_isShelf p1).bind fun v2 =>
  (if (b2i v2) = 0 then
  some ((-1), T)
  else
  (x_isPost T p2).bind fun v4 =>
  (if (b2i v4) = 0 then
  some ((-1), T)
  else
  (x_areNeeded p3).bind fun v6 =>
  (if (b2i v6) = 0 then
  some ((-1), T)
  else
  b2 (x_laySeenBoth N T p1 p2) fun v8 T9 =>
  (if 0 ≤ v8 then
  x_mix_b50 N p3 N T9 (-2) 0 0
  else
  some (v8, T9)))))
theorem mt_x_mix {κ : jK} (hκ : jX κ) (N : Nat) (G : Nat → Nat) {T : XS} {p1 : Int32} {p2 : Int32} {p3 : Int32} {v : Int32} {T' : XS} (h : x_mix N T p1 p2 p3 = some (v, T')) : jM κ yX0_mix (ws_ yX0_mix cX0_mix 9 (some .int)) 232 16 1024 [.ref (G 0), .int p1, .int p2, .int p3] (wX κ G T) (fun u w' => u = some (.int v) ∧ w' = wX κ G T') := by
  rw [x_mix] at h
  refine jM.of (by decide) rfl (Nat.le_of_ble_eq_true rfl) fun Γ C _ => ?_
  show J κ Γ (232, 16, 1024, (fun u w' => u = some (.int v) ∧ w' = wX κ G T')) 9 (wX κ G T) 0 0 0 [some (.ref (G 0)), some (.int p1), some (.int p2), some (.int p3), none, none, none, none, none] []
  refine j_iload_n C dX0_mix_0 rfl rfl ?_
  obtain ⟨v2, e1, h⟩ := ob h
  refine j_Si hκ.1.1 C (mt_x_isShelf hκ e1) hG_x_isShelf hy_x_isShelf rfl dX0_mix_1 (jfit.of (Nat.le_of_ble_eq_true rfl) (by decide) (Nat.le_of_ble_eq_true rfl) (Nat.le_of_ble_eq_true rfl) (Nat.le_of_ble_eq_true rfl)) rfl ?_
  refine j_if_eq C dX0_mix_4 (tgt := 22) (by decide) (fun c => ?_) (fun c => ?_)
  · replace h := ip c h
    refine j_iconst C (v := (-1)) dX0_mix_22 rfl ?_
    obtain ⟨rfl, rfl⟩ := sp2 h
    exact j_iret C dX0_mix_23 (Nat.le_of_ble_eq_true rfl) (Nat.le_of_ble_eq_true rfl) ⟨rfl, rfl⟩
  replace h := im c h
  refine j_aload_n C dX0_mix_7 rfl rfl ?_
  refine j_iload_n C dX0_mix_8 rfl rfl ?_
  obtain ⟨v4, e3, h⟩ := ob h
  refine jx_Vi hκ C (mt_x_isPost hκ G e3) hG_x_isPost hy_x_isPost rfl rfl dX0_mix_9 (jfit.of (Nat.le_of_ble_eq_true rfl) (by decide) (Nat.le_of_ble_eq_true rfl) (Nat.le_of_ble_eq_true rfl) (Nat.le_of_ble_eq_true rfl)) rfl ?_
  refine j_if_eq C dX0_mix_12 (tgt := 22) (by decide) (fun c => ?_) (fun c => ?_)
  · replace h := ip c h
    refine j_iconst C (v := (-1)) dX0_mix_22 rfl ?_
    obtain ⟨rfl, rfl⟩ := sp2 h
    exact j_iret C dX0_mix_23 (Nat.le_of_ble_eq_true rfl) (Nat.le_of_ble_eq_true rfl) ⟨rfl, rfl⟩
  replace h := im c h
  refine j_iload_n C dX0_mix_15 rfl rfl ?_
  obtain ⟨v6, e5, h⟩ := ob h
  refine j_Si hκ.1.1 C (mt_x_areNeeded hκ e5) hG_x_areNeeded hy_x_areNeeded rfl dX0_mix_16 (jfit.of (Nat.le_of_ble_eq_true rfl) (by decide) (Nat.le_of_ble_eq_true rfl) (Nat.le_of_ble_eq_true rfl) (Nat.le_of_ble_eq_true rfl)) rfl ?_
  refine j_if_ne C dX0_mix_19 (tgt := 24) (by decide) (fun c => ?_) (fun c => ?_)
  · replace h := im c h
    refine j_aload_n C dX0_mix_24 rfl rfl ?_
    refine j_iload_n C dX0_mix_25 rfl rfl ?_
    refine j_iload_n C dX0_mix_26 rfl rfl ?_
    obtain ⟨v8, T9, e7, h⟩ := ob2 h
    refine jx_Wi hκ C (mt_x_laySeenBoth hκ N G e7) hG_x_laySeenBoth hy_x_laySeenBoth rfl rfl dX0_mix_27 ⟨(Nat.le_of_ble_eq_true rfl), by decide, Nat.le_of_ble_eq_true rfl, Nat.le_of_ble_eq_true rfl, Nat.le_of_ble_eq_true rfl⟩ rfl ?_
    refine j_istore C dX0_mix_30 (by decide) rfl ?_
    refine j_iload C dX0_mix_32 rfl ?_
    refine j_if_ge C dX0_mix_34 (tgt := 40) (by decide) (fun c => ?_) (fun c => ?_)
    · replace h := ip c h
      refine j_bipush C (v := (-2)) dX0_mix_40 rfl ?_
      refine j_istore C dX0_mix_42 (by decide) rfl ?_
      refine j_iconst C (v := 0) dX0_mix_44 rfl ?_
      refine j_istore C dX0_mix_45 (by decide) rfl ?_
      refine j_iconst C (v := 0) dX0_mix_47 rfl ?_
      refine j_istore C dX0_mix_48 (by decide) rfl ?_
      exact j_sub (wx_mix_b50 hκ N C _ N _ _ _ _ h) ⟨rfl, ⟨rfl, ⟨rfl, ⟨rfl, ⟨rfl, trivial⟩⟩⟩⟩⟩
    replace h := im c h
    refine j_iload C dX0_mix_37 rfl ?_
    obtain ⟨rfl, rfl⟩ := sp2 h
    exact j_iret C dX0_mix_39 (Nat.le_of_ble_eq_true rfl) (Nat.le_of_ble_eq_true rfl) ⟨rfl, rfl⟩
  replace h := ip c h
  refine j_iconst C (v := (-1)) dX0_mix_22 rfl ?_
  obtain ⟨rfl, rfl⟩ := sp2 h
  exact j_iret C dX0_mix_23 (Nat.le_of_ble_eq_true rfl) (Nat.le_of_ble_eq_true rfl) ⟨rfl, rfl⟩
/-! laterThan -/
def x_laterThan (T : XS) (p1 : Int32) : Option Int32 :=
  (if (T.1 26) ≤ ((2 * p1) + 1) then
  some (-2000000000)
  else
  chk 60 (2 * p1) (
  (x_isPost T (T.2.1 25 (2 * p1).toNatClampNeg)).bind fun v3 =>
  (if (b2i v3) = 0 then
  some (-2000000000)
  else
  (if p1 = 0 then
  (x_fromGate T (T.2.1 25 0)).bind fun v14 =>
  some ((T.2.1 25 1) - v14)
  else
  chk 60 ((2 * p1) - 2) (
  (x_isPost T (T.2.1 25 ((2 * p1) - 2).toNatClampNeg)).bind fun v6 =>
  (if (b2i v6) = 0 then
  some (-2000000000)
  else
  chk 60 ((2 * p1) + 1) (
  chk 60 ((2 * p1) - 1) (
  chk 60 ((2 * p1) - 2) (
  chk 60 (2 * p1) (
  (x_between T (T.2.1 25 ((2 * p1) - 2).toNatClampNeg) (T.2.1 25 (2 * p1).toNatClampNeg)).bind fun v12 =>
  some ((((T.2.1 25 ((2 * p1) + 1).toNatClampNeg) - (T.2.1 25 ((2 * p1) - 1).toNatClampNeg)) - (T.1 5)) - v12)))))))))))
theorem mt_x_laterThan {κ : jK} (hκ : jX κ) (G : Nat → Nat) {T : XS} {p1 : Int32} {v : Int32} (h : x_laterThan T p1 = some v) : jM κ yX0_laterThan (ws_ yX0_laterThan cX0_laterThan 2 (some .int)) 4 0 0 [.ref (G 0), .int p1] (wX κ G T) (fun u w' => u = some (.int v) ∧ w' = wX κ G T) := by
  rw [x_laterThan] at h
  refine jM.of (by decide) rfl (Nat.le_of_ble_eq_true rfl) fun Γ C _ => ?_
  show J κ Γ (4, 0, 0, (fun u w' => u = some (.int v) ∧ w' = wX κ G T)) 2 (wX κ G T) 0 0 0 [some (.ref (G 0)), some (.int p1)] []
  refine j_iconst C (v := 2) dX0_laterThan_0 rfl ?_
  refine j_iload_n C dX0_laterThan_1 rfl rfl ?_
  refine j_imul C dX0_laterThan_2 ?_
  refine j_iconst C (v := 1) dX0_laterThan_3 rfl ?_
  refine j_iadd C dX0_laterThan_4 ?_
  refine j_aload_n C dX0_laterThan_5 rfl rfl ?_
  refine jx_geti hκ C 26 (by decide) rfl q215 dX0_laterThan_6 ?_
  refine j_icmp_ge C dX0_laterThan_9 (tgt := 27) (by decide) (fun c => ?_) (fun c => ?_)
  · replace h := ip c h
    refine j_ldc_w C (v := (-2000000000)) dX0_laterThan_27 q1087 ?_
    obtain rfl := sp1 h
    exact j_iret C dX0_laterThan_30 (Nat.le_of_ble_eq_true rfl) (Nat.le_of_ble_eq_true rfl) ⟨rfl, rfl⟩
  replace h := im c h
  refine j_aload_n C dX0_laterThan_12 rfl rfl ?_
  refine j_aload_n C dX0_laterThan_13 rfl rfl ?_
  refine jx_geta hκ C 25 (by decide) rfl rfl q214 dX0_laterThan_14 ?_
  refine j_iconst C (v := 2) dX0_laterThan_17 rfl ?_
  refine j_iload_n C dX0_laterThan_18 rfl rfl ?_
  refine j_imul C dX0_laterThan_19 ?_
  obtain ⟨b1, h⟩ := chk_some h
  refine jx_iald hκ C 25 rfl rfl b1 dX0_laterThan_20 ?_
  obtain ⟨v3, e2, h⟩ := ob h
  refine jx_Vi hκ C (mt_x_isPost hκ G e2) hG_x_isPost hy_x_isPost rfl rfl dX0_laterThan_21 (jfit.of (Nat.le_of_ble_eq_true rfl) (by decide) (Nat.le_of_ble_eq_true rfl) (Nat.le_of_ble_eq_true rfl) (Nat.le_of_ble_eq_true rfl)) rfl ?_
  refine j_if_ne C dX0_laterThan_24 (tgt := 31) (by decide) (fun c => ?_) (fun c => ?_)
  · replace h := im c h
    refine j_iload_n C dX0_laterThan_31 rfl rfl ?_
    refine j_if_ne C dX0_laterThan_32 (tgt := 53) (by decide) (fun c => ?_) (fun c => ?_)
    · replace h := im c h
      refine j_aload_n C dX0_laterThan_53 rfl rfl ?_
      refine j_aload_n C dX0_laterThan_54 rfl rfl ?_
      refine jx_geta hκ C 25 (by decide) rfl rfl q214 dX0_laterThan_55 ?_
      refine j_iconst C (v := 2) dX0_laterThan_58 rfl ?_
      refine j_iload_n C dX0_laterThan_59 rfl rfl ?_
      refine j_imul C dX0_laterThan_60 ?_
      refine j_iconst C (v := 2) dX0_laterThan_61 rfl ?_
      refine j_isub C dX0_laterThan_62 ?_
      obtain ⟨b4, h⟩ := chk_some h
      refine jx_iald hκ C 25 rfl rfl b4 dX0_laterThan_63 ?_
      obtain ⟨v6, e5, h⟩ := ob h
      refine jx_Vi hκ C (mt_x_isPost hκ G e5) hG_x_isPost hy_x_isPost rfl rfl dX0_laterThan_64 (jfit.of (Nat.le_of_ble_eq_true rfl) (by decide) (Nat.le_of_ble_eq_true rfl) (Nat.le_of_ble_eq_true rfl) (Nat.le_of_ble_eq_true rfl)) rfl ?_
      refine j_if_ne C dX0_laterThan_67 (tgt := 74) (by decide) (fun c => ?_) (fun c => ?_)
      · replace h := im c h
        refine j_aload_n C dX0_laterThan_74 rfl rfl ?_
        refine jx_geta hκ C 25 (by decide) rfl rfl q214 dX0_laterThan_75 ?_
        refine j_iconst C (v := 2) dX0_laterThan_78 rfl ?_
        refine j_iload_n C dX0_laterThan_79 rfl rfl ?_
        refine j_imul C dX0_laterThan_80 ?_
        refine j_iconst C (v := 1) dX0_laterThan_81 rfl ?_
        refine j_iadd C dX0_laterThan_82 ?_
        obtain ⟨b7, h⟩ := chk_some h
        refine jx_iald hκ C 25 rfl rfl b7 dX0_laterThan_83 ?_
        refine j_aload_n C dX0_laterThan_84 rfl rfl ?_
        refine jx_geta hκ C 25 (by decide) rfl rfl q214 dX0_laterThan_85 ?_
        refine j_iconst C (v := 2) dX0_laterThan_88 rfl ?_
        refine j_iload_n C dX0_laterThan_89 rfl rfl ?_
        refine j_imul C dX0_laterThan_90 ?_
        refine j_iconst C (v := 1) dX0_laterThan_91 rfl ?_
        refine j_isub C dX0_laterThan_92 ?_
        obtain ⟨b8, h⟩ := chk_some h
        refine jx_iald hκ C 25 rfl rfl b8 dX0_laterThan_93 ?_
        refine j_isub C dX0_laterThan_94 ?_
        refine j_aload_n C dX0_laterThan_95 rfl rfl ?_
        refine jx_geti hκ C 5 (by decide) rfl q192 dX0_laterThan_96 ?_
        refine j_isub C dX0_laterThan_99 ?_
        refine j_aload_n C dX0_laterThan_100 rfl rfl ?_
        refine j_aload_n C dX0_laterThan_101 rfl rfl ?_
        refine jx_geta hκ C 25 (by decide) rfl rfl q214 dX0_laterThan_102 ?_
        refine j_iconst C (v := 2) dX0_laterThan_105 rfl ?_
        refine j_iload_n C dX0_laterThan_106 rfl rfl ?_
        refine j_imul C dX0_laterThan_107 ?_
        refine j_iconst C (v := 2) dX0_laterThan_108 rfl ?_
        refine j_isub C dX0_laterThan_109 ?_
        obtain ⟨b9, h⟩ := chk_some h
        refine jx_iald hκ C 25 rfl rfl b9 dX0_laterThan_110 ?_
        refine j_aload_n C dX0_laterThan_111 rfl rfl ?_
        refine jx_geta hκ C 25 (by decide) rfl rfl q214 dX0_laterThan_112 ?_
        refine j_iconst C (v := 2) dX0_laterThan_115 rfl ?_
        refine j_iload_n C dX0_laterThan_116 rfl rfl ?_
        refine j_imul C dX0_laterThan_117 ?_
        obtain ⟨b10, h⟩ := chk_some h
        refine jx_iald hκ C 25 rfl rfl b10 dX0_laterThan_118 ?_
        obtain ⟨v12, e11, h⟩ := ob h
        refine jx_Vi hκ C (mt_x_between hκ G e11) hG_x_between hy_x_between rfl rfl dX0_laterThan_119 (jfit.of (Nat.le_of_ble_eq_true rfl) (by decide) (Nat.le_of_ble_eq_true rfl) (Nat.le_of_ble_eq_true rfl) (Nat.le_of_ble_eq_true rfl)) rfl ?_
        refine j_isub C dX0_laterThan_122 ?_
        obtain rfl := sp1 h
        exact j_iret C dX0_laterThan_123 (Nat.le_of_ble_eq_true rfl) (Nat.le_of_ble_eq_true rfl) ⟨rfl, rfl⟩
      replace h := ip c h
      refine j_ldc_w C (v := (-2000000000)) dX0_laterThan_70 q1087 ?_
      obtain rfl := sp1 h
      exact j_iret C dX0_laterThan_73 (Nat.le_of_ble_eq_true rfl) (Nat.le_of_ble_eq_true rfl) ⟨rfl, rfl⟩
    replace h := ip c h
    refine j_aload_n C dX0_laterThan_35 rfl rfl ?_
    refine jx_geta hκ C 25 (by decide) rfl rfl q214 dX0_laterThan_36 ?_
    refine j_iconst C (v := 1) dX0_laterThan_39 rfl ?_
    refine jx_ialdK hκ C 25 1 rfl rfl rfl (vp_k rfl) dX0_laterThan_40 ?_
    refine j_aload_n C dX0_laterThan_41 rfl rfl ?_
    refine j_aload_n C dX0_laterThan_42 rfl rfl ?_
    refine jx_geta hκ C 25 (by decide) rfl rfl q214 dX0_laterThan_43 ?_
    refine j_iconst C (v := 0) dX0_laterThan_46 rfl ?_
    refine jx_ialdK hκ C 25 0 rfl rfl rfl (vp_k rfl) dX0_laterThan_47 ?_
    obtain ⟨v14, e13, h⟩ := ob h
    refine jx_Vi hκ C (mt_x_fromGate hκ G e13) hG_x_fromGate hy_x_fromGate rfl rfl dX0_laterThan_48 (jfit.of (Nat.le_of_ble_eq_true rfl) (by decide) (Nat.le_of_ble_eq_true rfl) (Nat.le_of_ble_eq_true rfl) (Nat.le_of_ble_eq_true rfl)) rfl ?_
    refine j_isub C dX0_laterThan_51 ?_
    obtain rfl := sp1 h
    exact j_iret C dX0_laterThan_52 (Nat.le_of_ble_eq_true rfl) (Nat.le_of_ble_eq_true rfl) ⟨rfl, rfl⟩
  replace h := ip c h
  refine j_ldc_w C (v := (-2000000000)) dX0_laterThan_27 q1087 ?_
  obtain rfl := sp1 h
  exact j_iret C dX0_laterThan_30 (Nat.le_of_ble_eq_true rfl) (Nat.le_of_ble_eq_true rfl) ⟨rfl, rfl⟩
/-! forged -/
def x_forged_b4 (N : Nat) (T : XS) : Nat → Int32 → Int32 → Option Int32
  | 0, _, _ => none
  | n + 1, l1, l2 =>
    (if (T.1 26) ≤ (2 * l2) then
    some l1
    else
    (x_laterThan T l2).bind fun v2 =>
    (if 0 ≤ v2 then
    nm (l1 + 0) fun x3 =>
    nm (l2 + 1) fun x4 =>
    x_forged_b4 N T n x3 x4
    else
    nm (l1 + 1) fun x5 =>
    nm (l2 + 1) fun x6 =>
    x_forged_b4 N T n x5 x6))
theorem wx_forged_b4 {κ : jK} (hκ : jX κ) (N : Nat) {Γ : jG} (C : jC κ Γ cX0_forged 3 RX0 (some .int)) {G : Nat → Nat} {T : XS}  {v : Int32} : ∀ (n : Nat) (l1 : Int32) (l2 : Int32), x_forged_b4 N T n l1 l2 = some v → J κ Γ (5, 0, 0, (fun u w' => u = some (.int v) ∧ w' = wX κ G T)) 3 (wX κ G T) 0 0 4 [some (.ref (G 0)), some (.int l1), some (.int l2)] [] := by
  intro n
  induction n with
  | zero => intro _ _ h; cases h
  | succ n ih =>
    intro l1 l2 h
    rw [x_forged_b4] at h
    refine j_iconst C (v := 2) dX0_forged_4 rfl ?_
    refine j_iload_n C dX0_forged_5 rfl rfl ?_
    refine j_imul C dX0_forged_6 ?_
    refine j_aload_n C dX0_forged_7 rfl rfl ?_
    refine jx_geti hκ C 26 (by decide) rfl q215 dX0_forged_8 ?_
    refine j_icmp_ge C dX0_forged_11 (tgt := 36) (by decide) (fun c => ?_) (fun c => ?_)
    · replace h := ip c h
      refine j_iload_n C dX0_forged_36 rfl rfl ?_
      obtain rfl := sp1 h
      exact j_iret C dX0_forged_37 (Nat.le_of_ble_eq_true rfl) (Nat.le_of_ble_eq_true rfl) ⟨rfl, rfl⟩
    replace h := im c h
    refine j_iload_n C dX0_forged_14 rfl rfl ?_
    refine j_aload_n C dX0_forged_15 rfl rfl ?_
    refine j_iload_n C dX0_forged_16 rfl rfl ?_
    obtain ⟨v2, e1, h⟩ := ob h
    refine jx_Vi hκ C (mt_x_laterThan hκ G e1) hG_x_laterThan hy_x_laterThan rfl rfl dX0_forged_17 (jfit.of (Nat.le_of_ble_eq_true rfl) (by decide) (Nat.le_of_ble_eq_true rfl) (Nat.le_of_ble_eq_true rfl) (Nat.le_of_ble_eq_true rfl)) rfl ?_
    refine j_if_ge C dX0_forged_20 (tgt := 27) (by decide) (fun c => ?_) (fun c => ?_)
    · replace h := ip c h
      refine j_iconst C (v := 0) dX0_forged_27 rfl ?_
      refine j_iadd C dX0_forged_28 ?_
      refine j_nmI h (fun x3 h => ?_)
      refine j_istore_n C dX0_forged_29 rfl (by decide) rfl ?_
      refine j_iincN C h dX0_forged_30 rfl rfl (by decide) rfl (fun x4 h => ?_)
      refine j_goto C dX0_forged_33 (tgt := 4) (by decide) ?_
      exact j_sub (ih _ _ h) ⟨rfl, ⟨rfl, ⟨rfl, trivial⟩⟩⟩
    replace h := im c h
    refine j_iconst C (v := 1) dX0_forged_23 rfl ?_
    refine j_goto C dX0_forged_24 (tgt := 28) (by decide) ?_
    refine j_iadd C dX0_forged_28 ?_
    refine j_nmI h (fun x5 h => ?_)
    refine j_istore_n C dX0_forged_29 rfl (by decide) rfl ?_
    refine j_iincN C h dX0_forged_30 rfl rfl (by decide) rfl (fun x6 h => ?_)
    refine j_goto C dX0_forged_33 (tgt := 4) (by decide) ?_
    exact j_sub (ih _ _ h) ⟨rfl, ⟨rfl, ⟨rfl, trivial⟩⟩⟩
def x_forged (N : Nat) (T : XS) : Option Int32 :=
  x_forged_b4 N T N 0 0
theorem mt_x_forged {κ : jK} (hκ : jX κ) (N : Nat) (G : Nat → Nat) {T : XS} {v : Int32} (h : x_forged N T = some v) : jM κ yX0_forged (ws_ yX0_forged cX0_forged 3 (some .int)) 5 0 0 [.ref (G 0)] (wX κ G T) (fun u w' => u = some (.int v) ∧ w' = wX κ G T) := by
  rw [x_forged] at h
  refine jM.of (by decide) rfl (Nat.le_of_ble_eq_true rfl) fun Γ C _ => ?_
  show J κ Γ (5, 0, 0, (fun u w' => u = some (.int v) ∧ w' = wX κ G T)) 3 (wX κ G T) 0 0 0 [some (.ref (G 0)), none, none] []
  refine j_iconst C (v := 0) dX0_forged_0 rfl ?_
  refine j_istore_n C dX0_forged_1 rfl (by decide) rfl ?_
  refine j_iconst C (v := 0) dX0_forged_2 rfl ?_
  refine j_istore_n C dX0_forged_3 rfl (by decide) rfl ?_
  exact j_sub (wx_forged_b4 hκ N C N _ _ h) ⟨rfl, ⟨rfl, ⟨rfl, trivial⟩⟩⟩
/-! layPaper -/
def x_layPaper_b17 (N : Nat) (l2 : Nat) : Nat → XS → Int32 → Option (Int32 × XS)
  | 0, _, _ => none
  | n + 1, T, l3 =>
    b2 (rowZ T l2 24) fun b1 z2 =>
    (if (Int32.ofNat z2.2.2.2.1) ≤ l3 then
    some (0, T)
    else
    b2 (rowZ T l2 24) fun b6 z7 =>
    chk z7.2.2.2.1 l3 (
    chk 60 l3 (
    nm (xA T 25 l3.toNatClampNeg ((rAt 24 z7 l3.toNatClampNeg).toInt32)) fun T12 =>
    nm (xI T12 26 ((T12.1 26) + 1)) fun T14 =>
    nm (l3 + 1) fun x15 =>
    x_layPaper_b17 N l2 n T14 x15)))
theorem wx_layPaper_b17 {κ : jK} (hκ : jX κ) (N : Nat) {Γ : jG} (C : jC κ Γ cX0_layPaper 4 RX0 (some .int)) (ht : jtab Γ [((5 : Nat), (53 : Nat), (56 : Nat), (133 : Nat)), ((5 : Nat), (53 : Nat), (60 : Nat), (135 : Nat))]) {G : Nat → Nat} (l2 : Nat) {v : Int32} {T' : XS} : ∀ (n : Nat) (T : XS) (l3 : Int32), x_layPaper_b17 N l2 n T l3 = some (v, T') → J κ Γ (230, 16, 1024, (fun u w' => u = some (.int v) ∧ w' = wX κ G T')) 4 (wX κ G T) 0 0 17 [some (.ref (G 0)), none, some (.ref l2), some (.int l3)] [] := by
  intro n
  induction n with
  | zero => intro _ _ h; cases h
  | succ n ih =>
    intro T l3 h
    rw [x_layPaper_b17] at h
    refine j_iload_n C dX0_layPaper_17 rfl rfl ?_
    refine j_aload_n C dX0_layPaper_18 rfl rfl ?_
    obtain ⟨b1, z2, r3, h⟩ := ob2 h
    obtain ⟨q4, g5, -, -⟩ := rowZ_some r3
    refine jx_Oi hκ C (mt_r_size24 hκ G r3) (lw_V q1071 q1072 q1073 q152 q1074) (N := 0) ⟨by decide, by decide, by decide +kernel⟩ rfl g5 (by decide) rfl rfl dX0_layPaper_19 (jfit.of (Nat.le_of_ble_eq_true rfl) (by decide) (Nat.le_of_ble_eq_true rfl) (Nat.le_of_ble_eq_true rfl) (Nat.le_of_ble_eq_true rfl)) rfl ?_
    refine j_icmp_ge C dX0_layPaper_22 (tgt := 53) (by decide) (fun c => ?_) (fun c => ?_)
    · replace h := ip c h
      refine j_goto C dX0_layPaper_53 (tgt := 64) (by decide) ?_
      refine j_iconst C (v := 0) dX0_layPaper_64 rfl ?_
      obtain ⟨rfl, rfl⟩ := sp2 h
      exact j_iret C dX0_layPaper_65 (Nat.le_of_ble_eq_true rfl) (Nat.le_of_ble_eq_true rfl) ⟨rfl, rfl⟩
    replace h := im c h
    refine j_aload_n C dX0_layPaper_25 rfl rfl ?_
    refine jx_geta hκ C 25 (by decide) rfl rfl q214 dX0_layPaper_26 ?_
    refine j_iload_n C dX0_layPaper_29 rfl rfl ?_
    refine j_aload_n C dX0_layPaper_30 rfl rfl ?_
    refine j_iload_n C dX0_layPaper_31 rfl rfl ?_
    obtain ⟨b6, z7, r8, h⟩ := ob2 h
    obtain ⟨q9, g10, -, -⟩ := rowZ_some r8
    obtain ⟨c11, h⟩ := chk_some h
    refine jx_Ol hκ C (mt_r_at24 hκ G r8 c11) (lw_V q1075 q1076 q1077 q152 q1078) (N := 1) ⟨by decide, by decide, by decide +kernel⟩ rfl g10 (by decide) rfl rfl dX0_layPaper_32 (jfit.of (Nat.le_of_ble_eq_true rfl) (by decide) (Nat.le_of_ble_eq_true rfl) (Nat.le_of_ble_eq_true rfl) (Nat.le_of_ble_eq_true rfl)) rfl ?_
    refine j_l2i C dX0_layPaper_35 ?_
    obtain ⟨b13, h⟩ := chk_some h
    refine jx_iast hκ C 25 rfl rfl b13 dX0_layPaper_36 ?_
    refine jx_nmT h (fun T12 h => ?_)
    refine j_aload_n C dX0_layPaper_37 rfl rfl ?_
    refine j_dup C dX0_layPaper_38 rfl ?_
    refine jx_geti hκ C 26 (by decide) rfl q215 dX0_layPaper_39 ?_
    refine j_iconst C (v := 1) dX0_layPaper_42 rfl ?_
    refine j_iadd C dX0_layPaper_43 ?_
    refine jx_puti hκ C 26 (by decide) rfl rfl rfl q215 dX0_layPaper_44 ?_
    refine jx_nmT h (fun T14 h => ?_)
    refine j_iincN C h dX0_layPaper_47 rfl rfl (by decide) rfl (fun x15 h => ?_)
    refine j_goto C dX0_layPaper_50 (tgt := 17) (by decide) ?_
    exact j_sub (ih _ _ h) ⟨rfl, ⟨rfl, ⟨rfl, trivial⟩⟩⟩
def x_layPaper (N : Nat) (T : XS) (p1 : Int32) : Option (Int32 × XS) :=
  nm (xI T 26 0) fun T1 =>
  chk 6 p1 (
  onl (T1.2.2.1 48 p1.toNatClampNeg) (
  some ((-11), T1)) fun a5 =>
  (T1.2.2.2 a5).bind fun q7 =>
  (if q7.1 = 24 then
  x_layPaper_b17 N a5 N T1 0
  else if q7.1 ∈ [14, 15, 16, 17, 18, 19, 20, 21, 23, 25, 26, 27] then
  some ((-12), T1)
  else none))
theorem mt_x_layPaper {κ : jK} (hκ : jX κ) (N : Nat) (G : Nat → Nat) {T : XS} {p1 : Int32} {v : Int32} {T' : XS} (h : x_layPaper N T p1 = some (v, T')) : jM κ yX0_layPaper (wsW_ yX0_layPaper cX0_layPaper 4 (some .int) [((5 : Nat), (53 : Nat), (56 : Nat), (133 : Nat)), ((5 : Nat), (53 : Nat), (60 : Nat), (135 : Nat))]) 230 16 1024 [.ref (G 0), .int p1] (wX κ G T) (fun u w' => u = some (.int v) ∧ w' = wX κ G T') := by
  rw [x_layPaper] at h
  refine jM.ofH (by decide) rfl (Nat.le_of_ble_eq_true rfl) fun Γ C ht => ?_
  show J κ Γ (230, 16, 1024, (fun u w' => u = some (.int v) ∧ w' = wX κ G T')) 4 (wX κ G T) 0 0 0 [some (.ref (G 0)), some (.int p1), none, none] []
  refine j_aload_n C dX0_layPaper_0 rfl rfl ?_
  refine j_iconst C (v := 0) dX0_layPaper_1 rfl ?_
  refine jx_puti hκ C 26 (by decide) rfl rfl rfl q215 dX0_layPaper_2 ?_
  refine jx_nmT h (fun T1 h => ?_)
  refine j_aload_n C dX0_layPaper_5 rfl rfl ?_
  refine jx_geta hκ C 48 (by decide) rfl rfl q237 dX0_layPaper_6 ?_
  refine j_iload_n C dX0_layPaper_9 rfl rfl ?_
  obtain ⟨b2, h⟩ := chk_some h
  refine jx_aald hκ C 48 rfl rfl b2 dX0_layPaper_10 ?_
  rcases onl_some h with ⟨w6, h⟩ | ⟨a5, w6, h⟩
  · refine j_nul w6 ?_
    refine j_castN C dX0_layPaper_11 ?_
    refine j_astore_nN C dX0_layPaper_14 rfl (by decide) rfl ?_
    refine j_iconst C (v := 0) dX0_layPaper_15 rfl ?_
    refine j_istore_n C dX0_layPaper_16 rfl (by decide) rfl ?_
    refine j_iload_n C dX0_layPaper_17 rfl rfl ?_
    refine j_aload_nN C dX0_layPaper_18 rfl rfl ?_
    refine j_nullX hκ C ht (As := []) q1071 (Or.inl q1073) (Or.inr ⟨q1072, _, _, _, q1074⟩) ⟨by decide, by decide⟩ (by show _ = some 0; decide +kernel) dX0_layPaper_19 (jcat_mk [(5, 53, 56, 133)] (5, 53, 60, 135) [] "java/lang/NullPointerException" rfl ⟨Or.inr ⟨by decide, "java/lang/ClassCastException", q381, by decide⟩, trivial⟩ (by decide) (by decide) q465 q487 rfl) rfl (Nat.le_of_ble_eq_true rfl) (Nat.le_of_ble_eq_true rfl) (Nat.le_of_ble_eq_true rfl) (Nat.le_of_ble_eq_true rfl) (fun e => ?_)
    refine j_widen (k' := 1) (n' := 64) (by decide) (by decide) ?_
    refine j_astore_n C dX0_layPaper_60 rfl (by decide) rfl ?_
    refine j_bipush C (v := (-11)) dX0_layPaper_61 rfl ?_
    obtain ⟨rfl, rfl⟩ := sp2 h
    exact j_iret C dX0_layPaper_63 (Nat.le_of_ble_eq_true rfl) (Nat.le_of_ble_eq_true rfl) ⟨rfl, rfl⟩
  refine j_nn w6 ?_
  obtain ⟨q7, g8, h⟩ := ob h
  by_cases c9 : q7.1 = 24
  · replace h := ip c9 h
    refine jx_castY hκ C q1070 (getO_eq g8 c9) (by decide) rfl rfl (Or.inr rfl) dX0_layPaper_11 ?_
    refine j_astore_n C dX0_layPaper_14 rfl (by decide) rfl ?_
    refine j_iconst C (v := 0) dX0_layPaper_15 rfl ?_
    refine j_istore_n C dX0_layPaper_16 rfl (by decide) rfl ?_
    exact j_sub (wx_layPaper_b17 hκ N C ht _ N _ _ h) ⟨rfl, ⟨rfl, ⟨rfl, trivial⟩⟩⟩
  replace h := im c9 h
  by_cases c10 : q7.1 ∈ [14, 15, 16, 17, 18, 19, 20, 21, 23, 25, 26, 27]
  · replace h := ip c10 h
    refine jx_castX hκ C ht q1070 g8 c10 jbad_Short dX0_layPaper_11 (jcat_mk [] (5, 53, 56, 133) [(5, 53, 60, 135)] "java/lang/ClassCastException" rfl trivial (by decide) (by decide) q381 q443 rfl) (Nat.le_of_ble_eq_true rfl) (Nat.le_of_ble_eq_true rfl) (Nat.le_of_ble_eq_true rfl) (Nat.le_of_ble_eq_true rfl) (fun e => ?_)
    refine j_widen (k' := 16) (n' := 1024) (by decide) (by decide) ?_
    refine j_astore_n C dX0_layPaper_56 rfl (by decide) rfl ?_
    refine j_bipush C (v := (-12)) dX0_layPaper_57 rfl ?_
    obtain ⟨rfl, rfl⟩ := sp2 h
    exact j_iret C dX0_layPaper_59 (Nat.le_of_ble_eq_true rfl) (Nat.le_of_ble_eq_true rfl) ⟨rfl, rfl⟩
  replace h := im c10 h
  cases h
/-! wrongDent -/
def x_wrongDent_b2 (N : Nat) (T : XS) : Nat → Int32 → Option Int32
  | 0, _ => none
  | n + 1, l1 =>
    (if (T.1 26) ≤ (2 * l1) then
    some (-2)
    else
    (x_laterThan T l1).bind fun v2 =>
    (if 0 ≤ v2 then
    nm (l1 + 1) fun x3 =>
    x_wrongDent_b2 N T n x3
    else
    some l1))
theorem wx_wrongDent_b2 {κ : jK} (hκ : jX κ) (N : Nat) {Γ : jG} (C : jC κ Γ cX0_wrongDent 2 RX0 (some .int)) {G : Nat → Nat} {T : XS}  {v : Int32} : ∀ (n : Nat) (l1 : Int32), x_wrongDent_b2 N T n l1 = some v → J κ Γ (5, 0, 0, (fun u w' => u = some (.int v) ∧ w' = wX κ G T)) 2 (wX κ G T) 0 0 2 [some (.ref (G 0)), some (.int l1)] [] := by
  intro n
  induction n with
  | zero => intro _ h; cases h
  | succ n ih =>
    intro l1 h
    rw [x_wrongDent_b2] at h
    refine j_iconst C (v := 2) dX0_wrongDent_2 rfl ?_
    refine j_iload_n C dX0_wrongDent_3 rfl rfl ?_
    refine j_imul C dX0_wrongDent_4 ?_
    refine j_aload_n C dX0_wrongDent_5 rfl rfl ?_
    refine jx_geti hκ C 26 (by decide) rfl q215 dX0_wrongDent_6 ?_
    refine j_icmp_ge C dX0_wrongDent_9 (tgt := 28) (by decide) (fun c => ?_) (fun c => ?_)
    · replace h := ip c h
      refine j_bipush C (v := (-2)) dX0_wrongDent_28 rfl ?_
      obtain rfl := sp1 h
      exact j_iret C dX0_wrongDent_30 (Nat.le_of_ble_eq_true rfl) (Nat.le_of_ble_eq_true rfl) ⟨rfl, rfl⟩
    replace h := im c h
    refine j_aload_n C dX0_wrongDent_12 rfl rfl ?_
    refine j_iload_n C dX0_wrongDent_13 rfl rfl ?_
    obtain ⟨v2, e1, h⟩ := ob h
    refine jx_Vi hκ C (mt_x_laterThan hκ G e1) hG_x_laterThan hy_x_laterThan rfl rfl dX0_wrongDent_14 (jfit.of (Nat.le_of_ble_eq_true rfl) (by decide) (Nat.le_of_ble_eq_true rfl) (Nat.le_of_ble_eq_true rfl) (Nat.le_of_ble_eq_true rfl)) rfl ?_
    refine j_if_ge C dX0_wrongDent_17 (tgt := 22) (by decide) (fun c => ?_) (fun c => ?_)
    · replace h := ip c h
      refine j_iincN C h dX0_wrongDent_22 rfl rfl (by decide) rfl (fun x3 h => ?_)
      refine j_goto C dX0_wrongDent_25 (tgt := 2) (by decide) ?_
      exact j_sub (ih _ h) ⟨rfl, ⟨rfl, trivial⟩⟩
    replace h := im c h
    refine j_iload_n C dX0_wrongDent_20 rfl rfl ?_
    obtain rfl := sp1 h
    exact j_iret C dX0_wrongDent_21 (Nat.le_of_ble_eq_true rfl) (Nat.le_of_ble_eq_true rfl) ⟨rfl, rfl⟩
def x_wrongDent (N : Nat) (T : XS) : Option Int32 :=
  x_wrongDent_b2 N T N 0
theorem mt_x_wrongDent {κ : jK} (hκ : jX κ) (N : Nat) (G : Nat → Nat) {T : XS} {v : Int32} (h : x_wrongDent N T = some v) : jM κ yX0_wrongDent (ws_ yX0_wrongDent cX0_wrongDent 2 (some .int)) 5 0 0 [.ref (G 0)] (wX κ G T) (fun u w' => u = some (.int v) ∧ w' = wX κ G T) := by
  rw [x_wrongDent] at h
  refine jM.of (by decide) rfl (Nat.le_of_ble_eq_true rfl) fun Γ C _ => ?_
  show J κ Γ (5, 0, 0, (fun u w' => u = some (.int v) ∧ w' = wX κ G T)) 2 (wX κ G T) 0 0 0 [some (.ref (G 0)), none] []
  refine j_iconst C (v := 0) dX0_wrongDent_0 rfl ?_
  refine j_istore_n C dX0_wrongDent_1 rfl (by decide) rfl ?_
  exact j_sub (wx_wrongDent_b2 hκ N C N _ h) ⟨rfl, ⟨rfl, trivial⟩⟩
/-! slept -/
def x_slept_b17 (N : Nat) (T : XS) (l1 : Int32) (l2 : Int32) : Nat → Int32 → Int32 → Int32 → Int32 → Option Int32
  | 0, _, _, _, _ => none
  | n + 1, l3, l4, l5, l6 =>
    (if (T.1 26) ≤ (2 * l6) then
    (if l1 = 0 then
    some l3
    else
    some l4)
    else
    (if l6 = l2 then
    (if l1 = 0 then
    some l3
    else
    some l4)
    else
    (x_laterThan T l6).bind fun v2 =>
    nm (l3 + v2) fun x3 =>
    (if l5 < v2 then
    nm (l6 + 1) fun x4 =>
    x_slept_b17 N T l1 l2 n x3 l6 v2 x4
    else
    nm (l6 + 1) fun x5 =>
    x_slept_b17 N T l1 l2 n x3 l4 l5 x5)))
theorem wx_slept_b17 {κ : jK} (hκ : jX κ) (N : Nat) {Γ : jG} (C : jC κ Γ cX0_slept 8 RX0 (some .int)) {G : Nat → Nat} {T : XS} (l1 : Int32) (l2 : Int32) {v : Int32} : ∀ (n : Nat) (l3 : Int32) (l4 : Int32) (l5 : Int32) (l6 : Int32), x_slept_b17 N T l1 l2 n l3 l4 l5 l6 = some v → J κ Γ (6, 0, 0, (fun u w' => u = some (.int v) ∧ w' = wX κ G T)) 8 (wX κ G T) 0 0 17 [some (.ref (G 0)), some (.int l1), some (.int l2), some (.int l3), some (.int l4), some (.int l5), some (.int l6), none] [] := by
  intro n
  induction n with
  | zero => intro _ _ _ _ h; cases h
  | succ n ih =>
    intro l3 l4 l5 l6 h
    rw [x_slept_b17] at h
    refine j_iconst C (v := 2) dX0_slept_17 rfl ?_
    refine j_iload C dX0_slept_18 rfl ?_
    refine j_imul C dX0_slept_20 ?_
    refine j_aload_n C dX0_slept_21 rfl rfl ?_
    refine jx_geti hκ C 26 (by decide) rfl q215 dX0_slept_22 ?_
    refine j_icmp_ge C dX0_slept_25 (tgt := 71) (by decide) (fun c => ?_) (fun c => ?_)
    · replace h := ip c h
      refine j_iload_n C dX0_slept_71 rfl rfl ?_
      refine j_if_eq C dX0_slept_72 (tgt := 80) (by decide) (fun c => ?_) (fun c => ?_)
      · replace h := ip c h
        refine j_iload_n C dX0_slept_80 rfl rfl ?_
        obtain rfl := sp1 h
        exact j_iret C dX0_slept_81 (Nat.le_of_ble_eq_true rfl) (Nat.le_of_ble_eq_true rfl) ⟨rfl, rfl⟩
      replace h := im c h
      refine j_iload C dX0_slept_75 rfl ?_
      refine j_goto C dX0_slept_77 (tgt := 81) (by decide) ?_
      obtain rfl := sp1 h
      exact j_iret C dX0_slept_81 (Nat.le_of_ble_eq_true rfl) (Nat.le_of_ble_eq_true rfl) ⟨rfl, rfl⟩
    replace h := im c h
    refine j_iload C dX0_slept_28 rfl ?_
    refine j_iload_n C dX0_slept_30 rfl rfl ?_
    refine j_icmp_eq C dX0_slept_31 (tgt := 71) (by decide) (fun c => ?_) (fun c => ?_)
    · replace h := ip c h
      refine j_iload_n C dX0_slept_71 rfl rfl ?_
      refine j_if_eq C dX0_slept_72 (tgt := 80) (by decide) (fun c => ?_) (fun c => ?_)
      · replace h := ip c h
        refine j_iload_n C dX0_slept_80 rfl rfl ?_
        obtain rfl := sp1 h
        exact j_iret C dX0_slept_81 (Nat.le_of_ble_eq_true rfl) (Nat.le_of_ble_eq_true rfl) ⟨rfl, rfl⟩
      replace h := im c h
      refine j_iload C dX0_slept_75 rfl ?_
      refine j_goto C dX0_slept_77 (tgt := 81) (by decide) ?_
      obtain rfl := sp1 h
      exact j_iret C dX0_slept_81 (Nat.le_of_ble_eq_true rfl) (Nat.le_of_ble_eq_true rfl) ⟨rfl, rfl⟩
    replace h := im c h
    refine j_aload_n C dX0_slept_34 rfl rfl ?_
    refine j_iload C dX0_slept_35 rfl ?_
    obtain ⟨v2, e1, h⟩ := ob h
    refine jx_Vi hκ C (mt_x_laterThan hκ G e1) hG_x_laterThan hy_x_laterThan rfl rfl dX0_slept_37 (jfit.of (Nat.le_of_ble_eq_true rfl) (by decide) (Nat.le_of_ble_eq_true rfl) (Nat.le_of_ble_eq_true rfl) (Nat.le_of_ble_eq_true rfl)) rfl ?_
    refine j_istore C dX0_slept_40 (by decide) rfl ?_
    refine j_iload_n C dX0_slept_42 rfl rfl ?_
    refine j_iload C dX0_slept_43 rfl ?_
    refine j_iadd C dX0_slept_45 ?_
    refine j_nmI h (fun x3 h => ?_)
    refine j_istore_n C dX0_slept_46 rfl (by decide) rfl ?_
    refine j_iload C dX0_slept_47 rfl ?_
    refine j_iload C dX0_slept_49 rfl ?_
    refine j_icmp_gt C dX0_slept_51 (tgt := 57) (by decide) (fun c => ?_) (fun c => ?_)
    · replace h := ip c h
      refine j_iload C dX0_slept_57 rfl ?_
      refine j_istore C dX0_slept_59 (by decide) rfl ?_
      refine j_iload C dX0_slept_61 rfl ?_
      refine j_istore C dX0_slept_63 (by decide) rfl ?_
      refine j_iincN C h dX0_slept_65 rfl rfl (by decide) rfl (fun x4 h => ?_)
      refine j_goto C dX0_slept_68 (tgt := 17) (by decide) ?_
      exact j_sub (ih _ _ _ _ h) ⟨rfl, ⟨rfl, ⟨rfl, ⟨rfl, ⟨rfl, ⟨rfl, ⟨rfl, trivial⟩⟩⟩⟩⟩⟩⟩
    replace h := im c h
    refine j_goto C dX0_slept_54 (tgt := 65) (by decide) ?_
    refine j_iincN C h dX0_slept_65 rfl rfl (by decide) rfl (fun x5 h => ?_)
    refine j_goto C dX0_slept_68 (tgt := 17) (by decide) ?_
    exact j_sub (ih _ _ _ _ h) ⟨rfl, ⟨rfl, ⟨rfl, ⟨rfl, ⟨rfl, ⟨rfl, ⟨rfl, trivial⟩⟩⟩⟩⟩⟩⟩
def x_slept (N : Nat) (T : XS) (p1 : Int32) : Option Int32 :=
  (x_wrongDent N T).bind fun v2 =>
  x_slept_b17 N T p1 v2 N 0 (-2) 0 0
theorem mt_x_slept {κ : jK} (hκ : jX κ) (N : Nat) (G : Nat → Nat) {T : XS} {p1 : Int32} {v : Int32} (h : x_slept N T p1 = some v) : jM κ yX0_slept (ws_ yX0_slept cX0_slept 8 (some .int)) 6 0 0 [.ref (G 0), .int p1] (wX κ G T) (fun u w' => u = some (.int v) ∧ w' = wX κ G T) := by
  rw [x_slept] at h
  refine jM.of (by decide) rfl (Nat.le_of_ble_eq_true rfl) fun Γ C _ => ?_
  show J κ Γ (6, 0, 0, (fun u w' => u = some (.int v) ∧ w' = wX κ G T)) 8 (wX κ G T) 0 0 0 [some (.ref (G 0)), some (.int p1), none, none, none, none, none, none] []
  refine j_aload_n C dX0_slept_0 rfl rfl ?_
  obtain ⟨v2, e1, h⟩ := ob h
  refine jx_Vi hκ C (mt_x_wrongDent hκ N G e1) hG_x_wrongDent hy_x_wrongDent rfl rfl dX0_slept_1 (jfit.of (Nat.le_of_ble_eq_true rfl) (by decide) (Nat.le_of_ble_eq_true rfl) (Nat.le_of_ble_eq_true rfl) (Nat.le_of_ble_eq_true rfl)) rfl ?_
  refine j_istore_n C dX0_slept_4 rfl (by decide) rfl ?_
  refine j_iconst C (v := 0) dX0_slept_5 rfl ?_
  refine j_istore_n C dX0_slept_6 rfl (by decide) rfl ?_
  refine j_bipush C (v := (-2)) dX0_slept_7 rfl ?_
  refine j_istore C dX0_slept_9 (by decide) rfl ?_
  refine j_iconst C (v := 0) dX0_slept_11 rfl ?_
  refine j_istore C dX0_slept_12 (by decide) rfl ?_
  refine j_iconst C (v := 0) dX0_slept_14 rfl ?_
  refine j_istore C dX0_slept_15 (by decide) rfl ?_
  exact j_sub (wx_slept_b17 hκ N C _ _ N _ _ _ _ h) ⟨rfl, ⟨rfl, ⟨rfl, ⟨rfl, ⟨rfl, ⟨rfl, ⟨rfl, trivial⟩⟩⟩⟩⟩⟩⟩
/-! paper -/
def x_paper (N : Nat) (T : XS) (p1 : Int32) (p2 : Int32) : Option (Int32 × XS) :=
  (x_isShelf p1).bind fun v2 =>
  (if (b2i v2) = 0 then
  some ((-1), T)
  else
  (x_in p2 0 3).bind fun v4 =>
  (if (b2i v4) = 0 then
  some ((-1), T)
  else
  b2 (x_layPaper N T p1) fun v6 T7 =>
  (if 0 ≤ v6 then
  (if p2 = 0 then
  (x_wrongDent N T7).bind fun v15 =>
  some (v15, T7)
  else
  (if p2 = 3 then
  (x_forged N T7).bind fun v13 =>
  some (v13, T7)
  else
  (if p2 = 2 then
  (x_slept N T7 1).bind fun v11 =>
  some (v11, T7)
  else
  (x_slept N T7 0).bind fun v9 =>
  some (v9, T7))))
  else
  some (v6, T7))))
theorem mt_x_paper {κ : jK} (hκ : jX κ) (N : Nat) (G : Nat → Nat) {T : XS} {p1 : Int32} {p2 : Int32} {v : Int32} {T' : XS} (h : x_paper N T p1 p2 = some (v, T')) : jM κ yX0_paper (ws_ yX0_paper cX0_paper 4 (some .int)) 231 16 1024 [.ref (G 0), .int p1, .int p2] (wX κ G T) (fun u w' => u = some (.int v) ∧ w' = wX κ G T') := by
  rw [x_paper] at h
  refine jM.of (by decide) rfl (Nat.le_of_ble_eq_true rfl) fun Γ C _ => ?_
  show J κ Γ (231, 16, 1024, (fun u w' => u = some (.int v) ∧ w' = wX κ G T')) 4 (wX κ G T) 0 0 0 [some (.ref (G 0)), some (.int p1), some (.int p2), none] []
  refine j_iload_n C dX0_paper_0 rfl rfl ?_
  obtain ⟨v2, e1, h⟩ := ob h
  refine j_Si hκ.1.1 C (mt_x_isShelf hκ e1) hG_x_isShelf hy_x_isShelf rfl dX0_paper_1 (jfit.of (Nat.le_of_ble_eq_true rfl) (by decide) (Nat.le_of_ble_eq_true rfl) (Nat.le_of_ble_eq_true rfl) (Nat.le_of_ble_eq_true rfl)) rfl ?_
  refine j_if_eq C dX0_paper_4 (tgt := 16) (by decide) (fun c => ?_) (fun c => ?_)
  · replace h := ip c h
    refine j_iconst C (v := (-1)) dX0_paper_16 rfl ?_
    obtain ⟨rfl, rfl⟩ := sp2 h
    exact j_iret C dX0_paper_17 (Nat.le_of_ble_eq_true rfl) (Nat.le_of_ble_eq_true rfl) ⟨rfl, rfl⟩
  replace h := im c h
  refine j_iload_n C dX0_paper_7 rfl rfl ?_
  refine j_iconst C (v := 0) dX0_paper_8 rfl ?_
  refine j_iconst C (v := 3) dX0_paper_9 rfl ?_
  obtain ⟨v4, e3, h⟩ := ob h
  refine j_Si hκ.1.1 C (mt_x_in hκ e3) hG_x_in hy_x_in rfl dX0_paper_10 (jfit.of (Nat.le_of_ble_eq_true rfl) (by decide) (Nat.le_of_ble_eq_true rfl) (Nat.le_of_ble_eq_true rfl) (Nat.le_of_ble_eq_true rfl)) rfl ?_
  refine j_if_ne C dX0_paper_13 (tgt := 18) (by decide) (fun c => ?_) (fun c => ?_)
  · replace h := im c h
    refine j_aload_n C dX0_paper_18 rfl rfl ?_
    refine j_iload_n C dX0_paper_19 rfl rfl ?_
    obtain ⟨v6, T7, e5, h⟩ := ob2 h
    refine jx_Hi hκ C (mt_x_layPaper hκ N G e5) hG_x_layPaper hy_x_layPaper rfl rfl dX0_paper_20 ⟨(Nat.le_of_ble_eq_true rfl), by decide, Nat.le_of_ble_eq_true rfl, Nat.le_of_ble_eq_true rfl, Nat.le_of_ble_eq_true rfl⟩ rfl ?_
    refine j_istore_n C dX0_paper_23 rfl (by decide) rfl ?_
    refine j_iload_n C dX0_paper_24 rfl rfl ?_
    refine j_if_ge C dX0_paper_25 (tgt := 30) (by decide) (fun c => ?_) (fun c => ?_)
    · replace h := ip c h
      refine j_iload_n C dX0_paper_30 rfl rfl ?_
      refine j_if_ne C dX0_paper_31 (tgt := 41) (by decide) (fun c => ?_) (fun c => ?_)
      · replace h := im c h
        refine j_iload_n C dX0_paper_41 rfl rfl ?_
        refine j_iconst C (v := 3) dX0_paper_42 rfl ?_
        refine j_icmp_ne C dX0_paper_43 (tgt := 53) (by decide) (fun c => ?_) (fun c => ?_)
        · replace h := im c h
          refine j_aload_n C dX0_paper_53 rfl rfl ?_
          refine j_iload_n C dX0_paper_54 rfl rfl ?_
          refine j_iconst C (v := 2) dX0_paper_55 rfl ?_
          refine j_icmp_ne C dX0_paper_56 (tgt := 63) (by decide) (fun c => ?_) (fun c => ?_)
          · replace h := im c h
            refine j_iconst C (v := 0) dX0_paper_63 rfl ?_
            obtain ⟨v9, e8, h⟩ := ob h
            refine jx_Vi hκ C (mt_x_slept hκ N G e8) hG_x_slept hy_x_slept rfl rfl dX0_paper_64 (jfit.of (Nat.le_of_ble_eq_true rfl) (by decide) (Nat.le_of_ble_eq_true rfl) (Nat.le_of_ble_eq_true rfl) (Nat.le_of_ble_eq_true rfl)) rfl ?_
            obtain ⟨rfl, rfl⟩ := sp2 h
            exact j_iret C dX0_paper_67 (Nat.le_of_ble_eq_true rfl) (Nat.le_of_ble_eq_true rfl) ⟨rfl, rfl⟩
          replace h := ip c h
          refine j_iconst C (v := 1) dX0_paper_59 rfl ?_
          refine j_goto C dX0_paper_60 (tgt := 64) (by decide) ?_
          obtain ⟨v11, e10, h⟩ := ob h
          refine jx_Vi hκ C (mt_x_slept hκ N G e10) hG_x_slept hy_x_slept rfl rfl dX0_paper_64 (jfit.of (Nat.le_of_ble_eq_true rfl) (by decide) (Nat.le_of_ble_eq_true rfl) (Nat.le_of_ble_eq_true rfl) (Nat.le_of_ble_eq_true rfl)) rfl ?_
          obtain ⟨rfl, rfl⟩ := sp2 h
          exact j_iret C dX0_paper_67 (Nat.le_of_ble_eq_true rfl) (Nat.le_of_ble_eq_true rfl) ⟨rfl, rfl⟩
        replace h := ip c h
        refine j_aload_n C dX0_paper_46 rfl rfl ?_
        obtain ⟨v13, e12, h⟩ := ob h
        refine jx_Vi hκ C (mt_x_forged hκ N G e12) hG_x_forged hy_x_forged rfl rfl dX0_paper_47 (jfit.of (Nat.le_of_ble_eq_true rfl) (by decide) (Nat.le_of_ble_eq_true rfl) (Nat.le_of_ble_eq_true rfl) (Nat.le_of_ble_eq_true rfl)) rfl ?_
        refine j_goto C dX0_paper_50 (tgt := 67) (by decide) ?_
        obtain ⟨rfl, rfl⟩ := sp2 h
        exact j_iret C dX0_paper_67 (Nat.le_of_ble_eq_true rfl) (Nat.le_of_ble_eq_true rfl) ⟨rfl, rfl⟩
      replace h := ip c h
      refine j_aload_n C dX0_paper_34 rfl rfl ?_
      obtain ⟨v15, e14, h⟩ := ob h
      refine jx_Vi hκ C (mt_x_wrongDent hκ N G e14) hG_x_wrongDent hy_x_wrongDent rfl rfl dX0_paper_35 (jfit.of (Nat.le_of_ble_eq_true rfl) (by decide) (Nat.le_of_ble_eq_true rfl) (Nat.le_of_ble_eq_true rfl) (Nat.le_of_ble_eq_true rfl)) rfl ?_
      refine j_goto C dX0_paper_38 (tgt := 67) (by decide) ?_
      obtain ⟨rfl, rfl⟩ := sp2 h
      exact j_iret C dX0_paper_67 (Nat.le_of_ble_eq_true rfl) (Nat.le_of_ble_eq_true rfl) ⟨rfl, rfl⟩
    replace h := im c h
    refine j_iload_n C dX0_paper_28 rfl rfl ?_
    obtain ⟨rfl, rfl⟩ := sp2 h
    exact j_iret C dX0_paper_29 (Nat.le_of_ble_eq_true rfl) (Nat.le_of_ble_eq_true rfl) ⟨rfl, rfl⟩
  replace h := ip c h
  refine j_iconst C (v := (-1)) dX0_paper_16 rfl ?_
  obtain ⟨rfl, rfl⟩ := sp2 h
  exact j_iret C dX0_paper_17 (Nat.le_of_ble_eq_true rfl) (Nat.le_of_ble_eq_true rfl) ⟨rfl, rfl⟩
/-! isPaper -/
def x_isPaper_b14 (N : Nat) (T : XS) : Nat → Int32 → Option Bool
  | 0, _ => none
  | n + 1, l1 =>
    (if (T.1 26) ≤ (2 * l1) then
    some true
    else
    (if (T.1 17) ≤ l1 then
    some false
    else
    chk 4000 l1 (
    chk 60 (2 * l1) (
    (if (T.2.1 14 l1.toNatClampNeg) = (T.2.1 25 (2 * l1).toNatClampNeg) then
    chk 4000 l1 (
    chk 60 ((2 * l1) + 1) (
    (if (T.2.1 15 l1.toNatClampNeg) = (T.2.1 25 ((2 * l1) + 1).toNatClampNeg) then
    nm (l1 + 1) fun x5 =>
    x_isPaper_b14 N T n x5
    else
    some false)))
    else
    some false)))))
theorem wx_isPaper_b14 {κ : jK} (hκ : jX κ) (N : Nat) {Γ : jG} (C : jC κ Γ cX0_isPaper 2 RX0 (some .boolean)) {G : Nat → Nat} {T : XS}  {v : Bool} : ∀ (n : Nat) (l1 : Int32), x_isPaper_b14 N T n l1 = some v → J κ Γ (0, 0, 0, (fun u w' => u = some (.int (b2i v)) ∧ w' = wX κ G T)) 2 (wX κ G T) 0 0 14 [some (.ref (G 0)), some (.int l1)] [] := by
  intro n
  induction n with
  | zero => intro _ h; cases h
  | succ n ih =>
    intro l1 h
    rw [x_isPaper_b14] at h
    refine j_iconst C (v := 2) dX0_isPaper_14 rfl ?_
    refine j_iload_n C dX0_isPaper_15 rfl rfl ?_
    refine j_imul C dX0_isPaper_16 ?_
    refine j_aload_n C dX0_isPaper_17 rfl rfl ?_
    refine jx_geti hκ C 26 (by decide) rfl q215 dX0_isPaper_18 ?_
    refine j_icmp_ge C dX0_isPaper_21 (tgt := 76) (by decide) (fun c => ?_) (fun c => ?_)
    · replace h := ip c h
      refine j_iconst C (v := 1) dX0_isPaper_76 rfl ?_
      obtain rfl := sp1 h
      exact j_zret C rfl dX0_isPaper_77 (Nat.le_of_ble_eq_true rfl) (Nat.le_of_ble_eq_true rfl) ⟨rfl, rfl⟩
    replace h := im c h
    refine j_iload_n C dX0_isPaper_24 rfl rfl ?_
    refine j_aload_n C dX0_isPaper_25 rfl rfl ?_
    refine jx_geti hκ C 17 (by decide) rfl q206 dX0_isPaper_26 ?_
    refine j_icmp_ge C dX0_isPaper_29 (tgt := 68) (by decide) (fun c => ?_) (fun c => ?_)
    · replace h := ip c h
      refine j_iconst C (v := 0) dX0_isPaper_68 rfl ?_
      obtain rfl := sp1 h
      exact j_zret C rfl dX0_isPaper_69 (Nat.le_of_ble_eq_true rfl) (Nat.le_of_ble_eq_true rfl) ⟨rfl, rfl⟩
    replace h := im c h
    refine j_aload_n C dX0_isPaper_32 rfl rfl ?_
    refine jx_geta hκ C 14 (by decide) rfl rfl q203 dX0_isPaper_33 ?_
    refine j_iload_n C dX0_isPaper_36 rfl rfl ?_
    obtain ⟨b1, h⟩ := chk_some h
    refine jx_iald hκ C 14 rfl rfl b1 dX0_isPaper_37 ?_
    refine j_aload_n C dX0_isPaper_38 rfl rfl ?_
    refine jx_geta hκ C 25 (by decide) rfl rfl q214 dX0_isPaper_39 ?_
    refine j_iconst C (v := 2) dX0_isPaper_42 rfl ?_
    refine j_iload_n C dX0_isPaper_43 rfl rfl ?_
    refine j_imul C dX0_isPaper_44 ?_
    obtain ⟨b2, h⟩ := chk_some h
    refine jx_iald hκ C 25 rfl rfl b2 dX0_isPaper_45 ?_
    refine j_icmp_ne C dX0_isPaper_46 (tgt := 68) (by decide) (fun c => ?_) (fun c => ?_)
    · replace h := im c h
      refine j_iconst C (v := 0) dX0_isPaper_68 rfl ?_
      obtain rfl := sp1 h
      exact j_zret C rfl dX0_isPaper_69 (Nat.le_of_ble_eq_true rfl) (Nat.le_of_ble_eq_true rfl) ⟨rfl, rfl⟩
    replace h := ip c h
    refine j_aload_n C dX0_isPaper_49 rfl rfl ?_
    refine jx_geta hκ C 15 (by decide) rfl rfl q204 dX0_isPaper_50 ?_
    refine j_iload_n C dX0_isPaper_53 rfl rfl ?_
    obtain ⟨b3, h⟩ := chk_some h
    refine jx_iald hκ C 15 rfl rfl b3 dX0_isPaper_54 ?_
    refine j_aload_n C dX0_isPaper_55 rfl rfl ?_
    refine jx_geta hκ C 25 (by decide) rfl rfl q214 dX0_isPaper_56 ?_
    refine j_iconst C (v := 2) dX0_isPaper_59 rfl ?_
    refine j_iload_n C dX0_isPaper_60 rfl rfl ?_
    refine j_imul C dX0_isPaper_61 ?_
    refine j_iconst C (v := 1) dX0_isPaper_62 rfl ?_
    refine j_iadd C dX0_isPaper_63 ?_
    obtain ⟨b4, h⟩ := chk_some h
    refine jx_iald hκ C 25 rfl rfl b4 dX0_isPaper_64 ?_
    refine j_icmp_eq C dX0_isPaper_65 (tgt := 70) (by decide) (fun c => ?_) (fun c => ?_)
    · replace h := ip c h
      refine j_iincN C h dX0_isPaper_70 rfl rfl (by decide) rfl (fun x5 h => ?_)
      refine j_goto C dX0_isPaper_73 (tgt := 14) (by decide) ?_
      exact j_sub (ih _ h) ⟨rfl, ⟨rfl, trivial⟩⟩
    replace h := im c h
    refine j_iconst C (v := 0) dX0_isPaper_68 rfl ?_
    obtain rfl := sp1 h
    exact j_zret C rfl dX0_isPaper_69 (Nat.le_of_ble_eq_true rfl) (Nat.le_of_ble_eq_true rfl) ⟨rfl, rfl⟩
def x_isPaper (N : Nat) (T : XS) : Option Bool :=
  (if (jrem (T.1 26) 2) = 1 then
  some false
  else
  x_isPaper_b14 N T N 0)
theorem mt_x_isPaper {κ : jK} (hκ : jX κ) (N : Nat) (G : Nat → Nat) {T : XS} {v : Bool} (h : x_isPaper N T = some v) : jM κ yX0_isPaper (ws_ yX0_isPaper cX0_isPaper 2 (some .boolean)) 0 0 0 [.ref (G 0)] (wX κ G T) (fun u w' => u = some (.int (b2i v)) ∧ w' = wX κ G T) := by
  rw [x_isPaper] at h
  refine jM.of (by decide) rfl (Nat.le_of_ble_eq_true rfl) fun Γ C _ => ?_
  show J κ Γ (0, 0, 0, (fun u w' => u = some (.int (b2i v)) ∧ w' = wX κ G T)) 2 (wX κ G T) 0 0 0 [some (.ref (G 0)), none] []
  refine j_aload_n C dX0_isPaper_0 rfl rfl ?_
  refine jx_geti hκ C 26 (by decide) rfl q215 dX0_isPaper_1 ?_
  refine j_iconst C (v := 2) dX0_isPaper_4 rfl ?_
  refine j_irem C dX0_isPaper_5 (by decide) ?_
  refine j_iconst C (v := 1) dX0_isPaper_6 rfl ?_
  refine j_icmp_ne C dX0_isPaper_7 (tgt := 12) (by decide) (fun c => ?_) (fun c => ?_)
  · replace h := im c h
    refine j_iconst C (v := 0) dX0_isPaper_12 rfl ?_
    refine j_istore_n C dX0_isPaper_13 rfl (by decide) rfl ?_
    exact j_sub (wx_isPaper_b14 hκ N C N _ h) ⟨rfl, ⟨rfl, trivial⟩⟩
  replace h := ip c h
  refine j_iconst C (v := 0) dX0_isPaper_10 rfl ?_
  obtain rfl := sp1 h
  exact j_zret C rfl dX0_isPaper_11 (Nat.le_of_ble_eq_true rfl) (Nat.le_of_ble_eq_true rfl) ⟨rfl, rfl⟩
/-! which -/
def x_which_b87 (N : Nat) (T : XS) (s1 : Int32) : Option (Int32 × XS) :=
  (x_layDents N T 1).bind fun T3 =>
  (x_isPaper N T3).bind fun v5 =>
  (if (b2i v5) = 0 then
  some ((s1 + 0), T3)
  else
  some ((s1 + 2), T3))
theorem wx_which_b87 {κ : jK} (hκ : jX κ) (N : Nat) {Γ : jG} (C : jC κ Γ cX0_which 5 RX0 (some .int)) {G : Nat → Nat}  {v : Int32} {T' : XS} : ∀ (T : XS) (s1 : Int32), x_which_b87 N T s1 = some (v, T') → J κ Γ (231, 32, 2048, (fun u w' => u = some (.int v) ∧ w' = wX κ G T')) 5 (wX κ G T) 32 2048 87 [some (.ref (G 0)), none, none, none, none] [.int s1] := by
  intro T s1 h
  rw [x_which_b87] at h
  refine j_istore C dX0_which_87 (by decide) rfl ?_
  refine j_aload_n C dX0_which_89 rfl rfl ?_
  refine j_iconst C (v := 1) dX0_which_90 rfl ?_
  obtain ⟨T3, e1, h⟩ := ob h
  refine jx_Vv hκ C (mt_x_layDents hκ N G e1) hG_x_layDents hy_x_layDents rfl rfl dX0_which_91 (jfit.of (Nat.le_of_ble_eq_true rfl) (by decide) (Nat.le_of_ble_eq_true rfl) (Nat.le_of_ble_eq_true rfl) (Nat.le_of_ble_eq_true rfl)) rfl ?_
  refine j_iload C dX0_which_94 rfl ?_
  refine j_aload_n C dX0_which_96 rfl rfl ?_
  obtain ⟨v5, e4, h⟩ := ob h
  refine jx_Vi hκ C (mt_x_isPaper hκ N G e4) hG_x_isPaper hy_x_isPaper rfl rfl dX0_which_97 (jfit.of (Nat.le_of_ble_eq_true rfl) (by decide) (Nat.le_of_ble_eq_true rfl) (Nat.le_of_ble_eq_true rfl) (Nat.le_of_ble_eq_true rfl)) rfl ?_
  refine j_if_eq C dX0_which_100 (tgt := 107) (by decide) (fun c => ?_) (fun c => ?_)
  · replace h := ip c h
    refine j_iconst C (v := 0) dX0_which_107 rfl ?_
    refine j_iadd C dX0_which_108 ?_
    obtain ⟨rfl, rfl⟩ := sp2 h
    exact j_iret C dX0_which_109 (Nat.le_of_ble_eq_true rfl) (Nat.le_of_ble_eq_true rfl) ⟨rfl, rfl⟩
  replace h := im c h
  refine j_iconst C (v := 2) dX0_which_103 rfl ?_
  refine j_goto C dX0_which_104 (tgt := 108) (by decide) ?_
  refine j_iadd C dX0_which_108 ?_
  obtain ⟨rfl, rfl⟩ := sp2 h
  exact j_iret C dX0_which_109 (Nat.le_of_ble_eq_true rfl) (Nat.le_of_ble_eq_true rfl) ⟨rfl, rfl⟩
def x_which (N : Nat) (T : XS) (p1 : Int32) : Option (Int32 × XS) :=
  (if p1 < 0 then
  some ((-1), T)
  else
  (x_isShelf (p1 / 10)).bind fun v2 =>
  (if (b2i v2) = 0 then
  some ((-1), T)
  else
  (x_isShelf (jrem p1 10)).bind fun v4 =>
  (if (b2i v4) = 0 then
  some ((-1), T)
  else
  b2 (x_layRound N T (p1 / 10)) fun v6 T7 =>
  b2 (x_layPaper N T7 (jrem p1 10)) fun v9 T10 =>
  (if v6 = (-11) then
  some ((-11), T10)
  else
  (if v9 = (-11) then
  some ((-11), T10)
  else
  (if v6 < 0 then
  some ((-12), T10)
  else
  (if 0 ≤ v9 then
  (x_layDents N T10 0).bind fun T13 =>
  (x_isPaper N T13).bind fun v15 =>
  (if (b2i v15) = 0 then
  x_which_b87 N T13 0
  else
  x_which_b87 N T13 1)
  else
  some ((-12), T10))))))))
theorem mt_x_which {κ : jK} (hκ : jX κ) (N : Nat) (G : Nat → Nat) {T : XS} {p1 : Int32} {v : Int32} {T' : XS} (h : x_which N T p1 = some (v, T')) : jM κ yX0_which (ws_ yX0_which cX0_which 5 (some .int)) 231 32 2048 [.ref (G 0), .int p1] (wX κ G T) (fun u w' => u = some (.int v) ∧ w' = wX κ G T') := by
  rw [x_which] at h
  refine jM.of (by decide) rfl (Nat.le_of_ble_eq_true rfl) fun Γ C _ => ?_
  show J κ Γ (231, 32, 2048, (fun u w' => u = some (.int v) ∧ w' = wX κ G T')) 5 (wX κ G T) 0 0 0 [some (.ref (G 0)), some (.int p1), none, none, none] []
  refine j_iload_n C dX0_which_0 rfl rfl ?_
  refine j_if_lt C dX0_which_1 (tgt := 24) (by decide) (fun c => ?_) (fun c => ?_)
  · replace h := ip c h
    refine j_iconst C (v := (-1)) dX0_which_24 rfl ?_
    obtain ⟨rfl, rfl⟩ := sp2 h
    exact j_iret C dX0_which_25 (Nat.le_of_ble_eq_true rfl) (Nat.le_of_ble_eq_true rfl) ⟨rfl, rfl⟩
  replace h := im c h
  refine j_iload_n C dX0_which_4 rfl rfl ?_
  refine j_bipush C (v := 10) dX0_which_5 rfl ?_
  refine j_idiv C dX0_which_7 (by decide) ?_
  obtain ⟨v2, e1, h⟩ := ob h
  refine j_Si hκ.1.1 C (mt_x_isShelf hκ e1) hG_x_isShelf hy_x_isShelf rfl dX0_which_8 (jfit.of (Nat.le_of_ble_eq_true rfl) (by decide) (Nat.le_of_ble_eq_true rfl) (Nat.le_of_ble_eq_true rfl) (Nat.le_of_ble_eq_true rfl)) rfl ?_
  refine j_if_eq C dX0_which_11 (tgt := 24) (by decide) (fun c => ?_) (fun c => ?_)
  · replace h := ip c h
    refine j_iconst C (v := (-1)) dX0_which_24 rfl ?_
    obtain ⟨rfl, rfl⟩ := sp2 h
    exact j_iret C dX0_which_25 (Nat.le_of_ble_eq_true rfl) (Nat.le_of_ble_eq_true rfl) ⟨rfl, rfl⟩
  replace h := im c h
  refine j_iload_n C dX0_which_14 rfl rfl ?_
  refine j_bipush C (v := 10) dX0_which_15 rfl ?_
  refine j_irem C dX0_which_17 (by decide) ?_
  obtain ⟨v4, e3, h⟩ := ob h
  refine j_Si hκ.1.1 C (mt_x_isShelf hκ e3) hG_x_isShelf hy_x_isShelf rfl dX0_which_18 (jfit.of (Nat.le_of_ble_eq_true rfl) (by decide) (Nat.le_of_ble_eq_true rfl) (Nat.le_of_ble_eq_true rfl) (Nat.le_of_ble_eq_true rfl)) rfl ?_
  refine j_if_ne C dX0_which_21 (tgt := 26) (by decide) (fun c => ?_) (fun c => ?_)
  · replace h := im c h
    refine j_aload_n C dX0_which_26 rfl rfl ?_
    refine j_iload_n C dX0_which_27 rfl rfl ?_
    refine j_bipush C (v := 10) dX0_which_28 rfl ?_
    refine j_idiv C dX0_which_30 (by decide) ?_
    obtain ⟨v6, T7, e5, h⟩ := ob2 h
    refine jx_Hi hκ C (mt_x_layRound hκ N G e5) hG_x_layRound hy_x_layRound rfl rfl dX0_which_31 ⟨(Nat.le_of_ble_eq_true rfl), by decide, Nat.le_of_ble_eq_true rfl, Nat.le_of_ble_eq_true rfl, Nat.le_of_ble_eq_true rfl⟩ rfl ?_
    refine j_istore_n C dX0_which_34 rfl (by decide) rfl ?_
    refine j_aload_n C dX0_which_35 rfl rfl ?_
    refine j_iload_n C dX0_which_36 rfl rfl ?_
    refine j_bipush C (v := 10) dX0_which_37 rfl ?_
    refine j_irem C dX0_which_39 (by decide) ?_
    obtain ⟨v9, T10, e8, h⟩ := ob2 h
    refine jx_Hi hκ C (mt_x_layPaper hκ N G e8) hG_x_layPaper hy_x_layPaper rfl rfl dX0_which_40 ⟨(Nat.le_of_ble_eq_true rfl), by decide, Nat.le_of_ble_eq_true rfl, Nat.le_of_ble_eq_true rfl, Nat.le_of_ble_eq_true rfl⟩ rfl ?_
    refine j_istore_n C dX0_which_43 rfl (by decide) rfl ?_
    refine j_iload_n C dX0_which_44 rfl rfl ?_
    refine j_bipush C (v := (-11)) dX0_which_45 rfl ?_
    refine j_icmp_eq C dX0_which_47 (tgt := 56) (by decide) (fun c => ?_) (fun c => ?_)
    · replace h := ip c h
      refine j_bipush C (v := (-11)) dX0_which_56 rfl ?_
      obtain ⟨rfl, rfl⟩ := sp2 h
      exact j_iret C dX0_which_58 (Nat.le_of_ble_eq_true rfl) (Nat.le_of_ble_eq_true rfl) ⟨rfl, rfl⟩
    replace h := im c h
    refine j_iload_n C dX0_which_50 rfl rfl ?_
    refine j_bipush C (v := (-11)) dX0_which_51 rfl ?_
    refine j_icmp_ne C dX0_which_53 (tgt := 59) (by decide) (fun c => ?_) (fun c => ?_)
    · replace h := im c h
      refine j_iload_n C dX0_which_59 rfl rfl ?_
      refine j_if_lt C dX0_which_60 (tgt := 67) (by decide) (fun c => ?_) (fun c => ?_)
      · replace h := ip c h
        refine j_bipush C (v := (-12)) dX0_which_67 rfl ?_
        obtain ⟨rfl, rfl⟩ := sp2 h
        exact j_iret C dX0_which_69 (Nat.le_of_ble_eq_true rfl) (Nat.le_of_ble_eq_true rfl) ⟨rfl, rfl⟩
      replace h := im c h
      refine j_iload_n C dX0_which_63 rfl rfl ?_
      refine j_if_ge C dX0_which_64 (tgt := 70) (by decide) (fun c => ?_) (fun c => ?_)
      · replace h := ip c h
        refine j_aload_n C dX0_which_70 rfl rfl ?_
        refine j_iconst C (v := 0) dX0_which_71 rfl ?_
        obtain ⟨T13, e11, h⟩ := ob h
        refine jx_Vv hκ C (mt_x_layDents hκ N G e11) hG_x_layDents hy_x_layDents rfl rfl dX0_which_72 (jfit.of (Nat.le_of_ble_eq_true rfl) (by decide) (Nat.le_of_ble_eq_true rfl) (Nat.le_of_ble_eq_true rfl) (Nat.le_of_ble_eq_true rfl)) rfl ?_
        refine j_aload_n C dX0_which_75 rfl rfl ?_
        obtain ⟨v15, e14, h⟩ := ob h
        refine jx_Vi hκ C (mt_x_isPaper hκ N G e14) hG_x_isPaper hy_x_isPaper rfl rfl dX0_which_76 (jfit.of (Nat.le_of_ble_eq_true rfl) (by decide) (Nat.le_of_ble_eq_true rfl) (Nat.le_of_ble_eq_true rfl) (Nat.le_of_ble_eq_true rfl)) rfl ?_
        refine j_if_eq C dX0_which_79 (tgt := 86) (by decide) (fun c => ?_) (fun c => ?_)
        · replace h := ip c h
          refine j_iconst C (v := 0) dX0_which_86 rfl ?_
          exact j_sub (wx_which_b87 hκ N C _ _ h) ⟨rfl, trivial⟩
        replace h := im c h
        refine j_iconst C (v := 1) dX0_which_82 rfl ?_
        refine j_goto C dX0_which_83 (tgt := 87) (by decide) ?_
        exact j_sub (wx_which_b87 hκ N C _ _ h) ⟨rfl, trivial⟩
      replace h := im c h
      refine j_bipush C (v := (-12)) dX0_which_67 rfl ?_
      obtain ⟨rfl, rfl⟩ := sp2 h
      exact j_iret C dX0_which_69 (Nat.le_of_ble_eq_true rfl) (Nat.le_of_ble_eq_true rfl) ⟨rfl, rfl⟩
    replace h := ip c h
    refine j_bipush C (v := (-11)) dX0_which_56 rfl ?_
    obtain ⟨rfl, rfl⟩ := sp2 h
    exact j_iret C dX0_which_58 (Nat.le_of_ble_eq_true rfl) (Nat.le_of_ble_eq_true rfl) ⟨rfl, rfl⟩
  replace h := ip c h
  refine j_iconst C (v := (-1)) dX0_which_24 rfl ?_
  obtain ⟨rfl, rfl⟩ := sp2 h
  exact j_iret C dX0_which_25 (Nat.le_of_ble_eq_true rfl) (Nat.le_of_ble_eq_true rfl) ⟨rfl, rfl⟩
/-! goFits -/
def x_goFits_b30 (o : XS → Int32 → Int32 → Option XS) (N : Nat) : Nat → XS → Int32 → Option XS
  | 0, _, _ => none
  | n + 1, T, l3 =>
    (if (T.1 1) ≤ l3 then
    nm (xI T 27 ((T.1 27) + 1)) fun T1 =>
    some T1
    else
    chk 20 l3 (
    chk 9 l3 (
    nm (xA T 19 l3.toNatClampNeg (T.2.1 13 l3.toNatClampNeg)) fun T3 =>
    nm (l3 + 1) fun x5 =>
    x_goFits_b30 o N n T3 x5)))
theorem wx_goFits_b30 {κ : jK} (hκ : jX κ) (N : Nat) {Γ : jG} (C : jC κ Γ cX0_goFits 4 RX0 none) {G : Nat → Nat} (d : Nat) {o : XS → Int32 → Int32 → Option XS} (ho : ∀ {T : XS} {p1 : Int32} {p2 : Int32} {T' : XS}, o T p1 p2 = some T' → jM κ yX0_goFits (ws_ yX0_goFits cX0_goFits 4 none) (5 * d + 1) 0 0 [.ref (G 0), .int p1, .int p2] (wX κ G T) (fun u w' => u = none ∧ w' = wX κ G T'))  {T' : XS} : ∀ (n : Nat) (T : XS) (l3 : Int32), x_goFits_b30 o N n T l3 = some T' → J κ Γ ((5 * (d + 1) + 1), 0, 0, (fun u w' => u = none ∧ w' = wX κ G T')) 4 (wX κ G T) 0 0 30 [some (.ref (G 0)), none, none, some (.int l3)] [] := by
  intro n
  induction n with
  | zero => intro _ _ h; cases h
  | succ n ih =>
    intro T l3 h
    rw [x_goFits_b30] at h
    refine j_iload_n C dX0_goFits_30 rfl rfl ?_
    refine j_aload_n C dX0_goFits_31 rfl rfl ?_
    refine jx_geti hκ C 1 (by decide) rfl q188 dX0_goFits_32 ?_
    refine j_icmp_ge C dX0_goFits_35 (tgt := 56) (by decide) (fun c => ?_) (fun c => ?_)
    · replace h := ip c h
      refine j_aload_n C dX0_goFits_56 rfl rfl ?_
      refine j_dup C dX0_goFits_57 rfl ?_
      refine jx_geti hκ C 27 (by decide) rfl q216 dX0_goFits_58 ?_
      refine j_iconst C (v := 1) dX0_goFits_61 rfl ?_
      refine j_iadd C dX0_goFits_62 ?_
      refine jx_puti hκ C 27 (by decide) rfl rfl rfl q216 dX0_goFits_63 ?_
      refine jx_nmT h (fun T1 h => ?_)
      obtain rfl := sp1 h
      exact j_vret C dX0_goFits_66 (Nat.le_of_ble_eq_true rfl) (Nat.le_of_ble_eq_true rfl) ⟨rfl, rfl⟩
    replace h := im c h
    refine j_aload_n C dX0_goFits_38 rfl rfl ?_
    refine jx_geta hκ C 19 (by decide) rfl rfl q208 dX0_goFits_39 ?_
    refine j_iload_n C dX0_goFits_42 rfl rfl ?_
    refine j_aload_n C dX0_goFits_43 rfl rfl ?_
    refine jx_geta hκ C 13 (by decide) rfl rfl q202 dX0_goFits_44 ?_
    refine j_iload_n C dX0_goFits_47 rfl rfl ?_
    obtain ⟨b2, h⟩ := chk_some h
    refine jx_iald hκ C 13 rfl rfl b2 dX0_goFits_48 ?_
    obtain ⟨b4, h⟩ := chk_some h
    refine jx_iast hκ C 19 rfl rfl b4 dX0_goFits_49 ?_
    refine jx_nmT h (fun T3 h => ?_)
    refine j_iincN C h dX0_goFits_50 rfl rfl (by decide) rfl (fun x5 h => ?_)
    refine j_goto C dX0_goFits_53 (tgt := 30) (by decide) ?_
    exact j_sub (ih _ _ h) ⟨rfl, ⟨rfl, trivial⟩⟩
def x_goFits_b69 (o : XS → Int32 → Int32 → Option XS) (N : Nat) (l1 : Int32) (l2 : Int32) : Nat → XS → Int32 → Option XS
  | 0, _, _ => none
  | n + 1, T, l3 =>
    (if (T.1 1) ≤ l3 then
    some T
    else
    (x_has l2 l3).bind fun v2 =>
    (if (b2i v2) = 0 then
    chk 20 l1 (
    nm (xA T 13 l1.toNatClampNeg l3) fun T3 =>
    (o T3 (l1 + 1) (l2 ||| (1 <<< (l3 &&& 31)))).bind fun T7 =>
    nm (l3 + 1) fun x8 =>
    x_goFits_b69 o N l1 l2 n T7 x8)
    else
    nm (l3 + 1) fun x9 =>
    x_goFits_b69 o N l1 l2 n T x9))
theorem wx_goFits_b69 {κ : jK} (hκ : jX κ) (N : Nat) {Γ : jG} (C : jC κ Γ cX0_goFits 4 RX0 none) {G : Nat → Nat} (d : Nat) {o : XS → Int32 → Int32 → Option XS} (ho : ∀ {T : XS} {p1 : Int32} {p2 : Int32} {T' : XS}, o T p1 p2 = some T' → jM κ yX0_goFits (ws_ yX0_goFits cX0_goFits 4 none) (5 * d + 1) 0 0 [.ref (G 0), .int p1, .int p2] (wX κ G T) (fun u w' => u = none ∧ w' = wX κ G T')) (l1 : Int32) (l2 : Int32) {T' : XS} : ∀ (n : Nat) (T : XS) (l3 : Int32), x_goFits_b69 o N l1 l2 n T l3 = some T' → J κ Γ ((5 * (d + 1) + 1), 0, 0, (fun u w' => u = none ∧ w' = wX κ G T')) 4 (wX κ G T) 0 0 69 [some (.ref (G 0)), some (.int l1), some (.int l2), some (.int l3)] [] := by
  intro n
  induction n with
  | zero => intro _ _ h; cases h
  | succ n ih =>
    intro T l3 h
    rw [x_goFits_b69] at h
    refine j_iload_n C dX0_goFits_69 rfl rfl ?_
    refine j_aload_n C dX0_goFits_70 rfl rfl ?_
    refine jx_geti hκ C 1 (by decide) rfl q188 dX0_goFits_71 ?_
    refine j_icmp_ge C dX0_goFits_74 (tgt := 113) (by decide) (fun c => ?_) (fun c => ?_)
    · replace h := ip c h
      obtain rfl := sp1 h
      exact j_vret C dX0_goFits_113 (Nat.le_of_ble_eq_true rfl) (Nat.le_of_ble_eq_true rfl) ⟨rfl, rfl⟩
    replace h := im c h
    refine j_iload_n C dX0_goFits_77 rfl rfl ?_
    refine j_iload_n C dX0_goFits_78 rfl rfl ?_
    obtain ⟨v2, e1, h⟩ := ob h
    refine j_Si hκ.1.1 C (mt_x_has hκ e1) hG_x_has hy_x_has rfl dX0_goFits_79 (jfit.of (by omega) (by decide) (Nat.le_of_ble_eq_true rfl) (Nat.le_of_ble_eq_true rfl) (Nat.le_of_ble_eq_true rfl)) rfl ?_
    refine j_if_eq C dX0_goFits_82 (tgt := 88) (by decide) (fun c => ?_) (fun c => ?_)
    · replace h := ip c h
      refine j_aload_n C dX0_goFits_88 rfl rfl ?_
      refine jx_geta hκ C 13 (by decide) rfl rfl q202 dX0_goFits_89 ?_
      refine j_iload_n C dX0_goFits_92 rfl rfl ?_
      refine j_iload_n C dX0_goFits_93 rfl rfl ?_
      obtain ⟨b4, h⟩ := chk_some h
      refine jx_iast hκ C 13 rfl rfl b4 dX0_goFits_94 ?_
      refine jx_nmT h (fun T3 h => ?_)
      refine j_aload_n C dX0_goFits_95 rfl rfl ?_
      refine j_iload_n C dX0_goFits_96 rfl rfl ?_
      refine j_iconst C (v := 1) dX0_goFits_97 rfl ?_
      refine j_iadd C dX0_goFits_98 ?_
      refine j_iload_n C dX0_goFits_99 rfl rfl ?_
      refine j_iconst C (v := 1) dX0_goFits_100 rfl ?_
      refine j_iload_n C dX0_goFits_101 rfl rfl ?_
      refine j_ishl C dX0_goFits_102 ?_
      refine j_ior C dX0_goFits_103 ?_
      obtain ⟨T7, e5, h⟩ := ob h
      refine jx_Vv hκ C (ho e5) hG_x_goFits hy_x_goFits rfl rfl dX0_goFits_104 (jfit.of (by omega) (by decide) (Nat.le_of_ble_eq_true rfl) (Nat.le_of_ble_eq_true rfl) (Nat.le_of_ble_eq_true rfl)) rfl ?_
      refine j_iincN C h dX0_goFits_107 rfl rfl (by decide) rfl (fun x8 h => ?_)
      refine j_goto C dX0_goFits_110 (tgt := 69) (by decide) ?_
      exact j_sub (ih _ _ h) ⟨rfl, ⟨rfl, ⟨rfl, ⟨rfl, trivial⟩⟩⟩⟩
    replace h := im c h
    refine j_goto C dX0_goFits_85 (tgt := 107) (by decide) ?_
    refine j_iincN C h dX0_goFits_107 rfl rfl (by decide) rfl (fun x9 h => ?_)
    refine j_goto C dX0_goFits_110 (tgt := 69) (by decide) ?_
    exact j_sub (ih _ _ h) ⟨rfl, ⟨rfl, ⟨rfl, ⟨rfl, trivial⟩⟩⟩⟩
def x_goFits (N : Nat) : Nat → XS → Int32 → Int32 → Option XS
  | 0, _, _, _ => none
  | d + 1, T, p1, p2 =>
    (if p1 = (T.1 1) then
    (x_layDents N T 0).bind fun T3 =>
    (x_isPaper N T3).bind fun v5 =>
    (if (b2i v5) = 0 then
    some T3
    else
    (if (T3.1 27) = 0 then
    x_goFits_b30 (x_goFits N d) N N T3 0
    else
    nm (xI T3 27 ((T3.1 27) + 1)) fun T6 =>
    some T6))
    else
    x_goFits_b69 (x_goFits N d) N p1 p2 N T 0)
theorem mt_x_goFits {κ : jK} (hκ : jX κ) (N : Nat) (G : Nat → Nat) : ∀ (d : Nat) {T : XS} {p1 : Int32} {p2 : Int32} {T' : XS}, x_goFits N d T p1 p2 = some T' → jM κ yX0_goFits (ws_ yX0_goFits cX0_goFits 4 none) (5 * d + 1) 0 0 [.ref (G 0), .int p1, .int p2] (wX κ G T) (fun u w' => u = none ∧ w' = wX κ G T') := by
  intro d
  induction d with
  | zero => intro _ _ _ _ h; cases h
  | succ d ih =>
    intro T p1 p2 T' h
    rw [x_goFits] at h
    refine jM.of (by decide) rfl (Nat.le_of_ble_eq_true rfl) fun Γ C _ => ?_
    show J κ Γ ((5 * (d + 1) + 1), 0, 0, (fun u w' => u = none ∧ w' = wX κ G T')) 4 (wX κ G T) 0 0 0 [some (.ref (G 0)), some (.int p1), some (.int p2), none] []
    refine j_iload_n C dX0_goFits_0 rfl rfl ?_
    refine j_aload_n C dX0_goFits_1 rfl rfl ?_
    refine jx_geti hκ C 1 (by decide) rfl q188 dX0_goFits_2 ?_
    refine j_icmp_ne C dX0_goFits_5 (tgt := 67) (by decide) (fun c => ?_) (fun c => ?_)
    · replace h := im c h
      refine j_iconst C (v := 0) dX0_goFits_67 rfl ?_
      refine j_istore_n C dX0_goFits_68 rfl (by decide) rfl ?_
      exact j_sub (wx_goFits_b69 hκ N C d ih _ _ N _ _ h) ⟨rfl, ⟨rfl, ⟨rfl, ⟨rfl, trivial⟩⟩⟩⟩
    replace h := ip c h
    refine j_aload_n C dX0_goFits_8 rfl rfl ?_
    refine j_iconst C (v := 0) dX0_goFits_9 rfl ?_
    obtain ⟨T3, e1, h⟩ := ob h
    refine jx_Vv hκ C (mt_x_layDents hκ N G e1) hG_x_layDents hy_x_layDents rfl rfl dX0_goFits_10 (jfit.of (by omega) (by decide) (Nat.le_of_ble_eq_true rfl) (Nat.le_of_ble_eq_true rfl) (Nat.le_of_ble_eq_true rfl)) rfl ?_
    refine j_aload_n C dX0_goFits_13 rfl rfl ?_
    obtain ⟨v5, e4, h⟩ := ob h
    refine jx_Vi hκ C (mt_x_isPaper hκ N G e4) hG_x_isPaper hy_x_isPaper rfl rfl dX0_goFits_14 (jfit.of (by omega) (by decide) (Nat.le_of_ble_eq_true rfl) (Nat.le_of_ble_eq_true rfl) (Nat.le_of_ble_eq_true rfl)) rfl ?_
    refine j_if_ne C dX0_goFits_17 (tgt := 21) (by decide) (fun c => ?_) (fun c => ?_)
    · replace h := im c h
      refine j_aload_n C dX0_goFits_21 rfl rfl ?_
      refine jx_geti hκ C 27 (by decide) rfl q216 dX0_goFits_22 ?_
      refine j_if_ne C dX0_goFits_25 (tgt := 56) (by decide) (fun c => ?_) (fun c => ?_)
      · replace h := im c h
        refine j_aload_n C dX0_goFits_56 rfl rfl ?_
        refine j_dup C dX0_goFits_57 rfl ?_
        refine jx_geti hκ C 27 (by decide) rfl q216 dX0_goFits_58 ?_
        refine j_iconst C (v := 1) dX0_goFits_61 rfl ?_
        refine j_iadd C dX0_goFits_62 ?_
        refine jx_puti hκ C 27 (by decide) rfl rfl rfl q216 dX0_goFits_63 ?_
        refine jx_nmT h (fun T6 h => ?_)
        obtain rfl := sp1 h
        exact j_vret C dX0_goFits_66 (Nat.le_of_ble_eq_true rfl) (Nat.le_of_ble_eq_true rfl) ⟨rfl, rfl⟩
      replace h := ip c h
      refine j_iconst C (v := 0) dX0_goFits_28 rfl ?_
      refine j_istore_n C dX0_goFits_29 rfl (by decide) rfl ?_
      exact j_sub (wx_goFits_b30 hκ N C d ih N _ _ h) ⟨rfl, ⟨rfl, trivial⟩⟩
    replace h := ip c h
    obtain rfl := sp1 h
    exact j_vret C dX0_goFits_20 (Nat.le_of_ble_eq_true rfl) (Nat.le_of_ble_eq_true rfl) ⟨rfl, rfl⟩
/-! fit -/
def x_fit (N : Nat) (T : XS) (p1 : Int32) (p2 : Int32) : Option (Int32 × XS) :=
  (x_isShelf p1).bind fun v2 =>
  (if (b2i v2) = 0 then
  some ((-1), T)
  else
  (if (-1) ≤ p2 then
  b2 (x_layPaper N T p1) fun v4 T5 =>
  (if 0 ≤ v4 then
  (if (T5.1 1) ≤ 6 then
  nm (xI T5 16 (T5.1 1)) fun T6 =>
  nm (xI T6 27 0) fun T7 =>
  (x_goFits N 10 T7 0 0).bind fun T10 =>
  (if 0 ≤ p2 then
  (if (T10.1 27) ≤ 0 then
  some ((-2), T10)
  else
  (if (T10.1 1) ≤ p2 then
  some ((-2), T10)
  else
  chk 9 p2 (
  some (T10.2.1 19 p2.toNatClampNeg, T10))))
  else
  some (T10.1 27, T10))
  else
  some ((-5), T5))
  else
  some (v4, T5))
  else
  some ((-1), T)))
theorem mt_x_fit {κ : jK} (hκ : jX κ) (N : Nat) (G : Nat → Nat) {T : XS} {p1 : Int32} {p2 : Int32} {v : Int32} {T' : XS} (h : x_fit N T p1 p2 = some (v, T')) : jM κ yX0_fit (ws_ yX0_fit cX0_fit 4 (some .int)) 231 16 1024 [.ref (G 0), .int p1, .int p2] (wX κ G T) (fun u w' => u = some (.int v) ∧ w' = wX κ G T') := by
  rw [x_fit] at h
  refine jM.of (by decide) rfl (Nat.le_of_ble_eq_true rfl) fun Γ C _ => ?_
  show J κ Γ (231, 16, 1024, (fun u w' => u = some (.int v) ∧ w' = wX κ G T')) 4 (wX κ G T) 0 0 0 [some (.ref (G 0)), some (.int p1), some (.int p2), none] []
  refine j_iload_n C dX0_fit_0 rfl rfl ?_
  obtain ⟨v2, e1, h⟩ := ob h
  refine j_Si hκ.1.1 C (mt_x_isShelf hκ e1) hG_x_isShelf hy_x_isShelf rfl dX0_fit_1 (jfit.of (Nat.le_of_ble_eq_true rfl) (by decide) (Nat.le_of_ble_eq_true rfl) (Nat.le_of_ble_eq_true rfl) (Nat.le_of_ble_eq_true rfl)) rfl ?_
  refine j_if_eq C dX0_fit_4 (tgt := 12) (by decide) (fun c => ?_) (fun c => ?_)
  · replace h := ip c h
    refine j_iconst C (v := (-1)) dX0_fit_12 rfl ?_
    obtain ⟨rfl, rfl⟩ := sp2 h
    exact j_iret C dX0_fit_13 (Nat.le_of_ble_eq_true rfl) (Nat.le_of_ble_eq_true rfl) ⟨rfl, rfl⟩
  replace h := im c h
  refine j_iload_n C dX0_fit_7 rfl rfl ?_
  refine j_iconst C (v := (-1)) dX0_fit_8 rfl ?_
  refine j_icmp_ge C dX0_fit_9 (tgt := 14) (by decide) (fun c => ?_) (fun c => ?_)
  · replace h := ip c h
    refine j_aload_n C dX0_fit_14 rfl rfl ?_
    refine j_iload_n C dX0_fit_15 rfl rfl ?_
    obtain ⟨v4, T5, e3, h⟩ := ob2 h
    refine jx_Hi hκ C (mt_x_layPaper hκ N G e3) hG_x_layPaper hy_x_layPaper rfl rfl dX0_fit_16 ⟨(Nat.le_of_ble_eq_true rfl), by decide, Nat.le_of_ble_eq_true rfl, Nat.le_of_ble_eq_true rfl, Nat.le_of_ble_eq_true rfl⟩ rfl ?_
    refine j_istore_n C dX0_fit_19 rfl (by decide) rfl ?_
    refine j_iload_n C dX0_fit_20 rfl rfl ?_
    refine j_if_ge C dX0_fit_21 (tgt := 26) (by decide) (fun c => ?_) (fun c => ?_)
    · replace h := ip c h
      refine j_aload_n C dX0_fit_26 rfl rfl ?_
      refine jx_geti hκ C 1 (by decide) rfl q188 dX0_fit_27 ?_
      refine j_bipush C (v := 6) dX0_fit_30 rfl ?_
      refine j_icmp_le C dX0_fit_32 (tgt := 38) (by decide) (fun c => ?_) (fun c => ?_)
      · replace h := ip c h
        refine j_aload_n C dX0_fit_38 rfl rfl ?_
        refine j_aload_n C dX0_fit_39 rfl rfl ?_
        refine jx_geti hκ C 1 (by decide) rfl q188 dX0_fit_40 ?_
        refine jx_puti hκ C 16 (by decide) rfl rfl rfl q205 dX0_fit_43 ?_
        refine jx_nmT h (fun T6 h => ?_)
        refine j_aload_n C dX0_fit_46 rfl rfl ?_
        refine j_iconst C (v := 0) dX0_fit_47 rfl ?_
        refine jx_puti hκ C 27 (by decide) rfl rfl rfl q216 dX0_fit_48 ?_
        refine jx_nmT h (fun T7 h => ?_)
        refine j_aload_n C dX0_fit_51 rfl rfl ?_
        refine j_iconst C (v := 0) dX0_fit_52 rfl ?_
        refine j_iconst C (v := 0) dX0_fit_53 rfl ?_
        obtain ⟨T10, e8, h⟩ := ob h
        refine jx_Vv hκ C (mt_x_goFits hκ N G 10 e8) hG_x_goFits hy_x_goFits rfl rfl dX0_fit_54 (jfit.of (Nat.le_of_ble_eq_true rfl) (by decide) (Nat.le_of_ble_eq_true rfl) (Nat.le_of_ble_eq_true rfl) (Nat.le_of_ble_eq_true rfl)) rfl ?_
        refine j_iload_n C dX0_fit_57 rfl rfl ?_
        refine j_if_ge C dX0_fit_58 (tgt := 68) (by decide) (fun c => ?_) (fun c => ?_)
        · replace h := ip c h
          refine j_aload_n C dX0_fit_68 rfl rfl ?_
          refine jx_geti hκ C 27 (by decide) rfl q216 dX0_fit_69 ?_
          refine j_if_le C dX0_fit_72 (tgt := 92) (by decide) (fun c => ?_) (fun c => ?_)
          · replace h := ip c h
            refine j_bipush C (v := (-2)) dX0_fit_92 rfl ?_
            obtain ⟨rfl, rfl⟩ := sp2 h
            exact j_iret C dX0_fit_94 (Nat.le_of_ble_eq_true rfl) (Nat.le_of_ble_eq_true rfl) ⟨rfl, rfl⟩
          replace h := im c h
          refine j_iload_n C dX0_fit_75 rfl rfl ?_
          refine j_aload_n C dX0_fit_76 rfl rfl ?_
          refine jx_geti hκ C 1 (by decide) rfl q188 dX0_fit_77 ?_
          refine j_icmp_ge C dX0_fit_80 (tgt := 92) (by decide) (fun c => ?_) (fun c => ?_)
          · replace h := ip c h
            refine j_bipush C (v := (-2)) dX0_fit_92 rfl ?_
            obtain ⟨rfl, rfl⟩ := sp2 h
            exact j_iret C dX0_fit_94 (Nat.le_of_ble_eq_true rfl) (Nat.le_of_ble_eq_true rfl) ⟨rfl, rfl⟩
          replace h := im c h
          refine j_aload_n C dX0_fit_83 rfl rfl ?_
          refine jx_geta hκ C 19 (by decide) rfl rfl q208 dX0_fit_84 ?_
          refine j_iload_n C dX0_fit_87 rfl rfl ?_
          obtain ⟨b11, h⟩ := chk_some h
          refine jx_iald hκ C 19 rfl rfl b11 dX0_fit_88 ?_
          refine j_goto C dX0_fit_89 (tgt := 94) (by decide) ?_
          obtain ⟨rfl, rfl⟩ := sp2 h
          exact j_iret C dX0_fit_94 (Nat.le_of_ble_eq_true rfl) (Nat.le_of_ble_eq_true rfl) ⟨rfl, rfl⟩
        replace h := im c h
        refine j_aload_n C dX0_fit_61 rfl rfl ?_
        refine jx_geti hκ C 27 (by decide) rfl q216 dX0_fit_62 ?_
        refine j_goto C dX0_fit_65 (tgt := 94) (by decide) ?_
        obtain ⟨rfl, rfl⟩ := sp2 h
        exact j_iret C dX0_fit_94 (Nat.le_of_ble_eq_true rfl) (Nat.le_of_ble_eq_true rfl) ⟨rfl, rfl⟩
      replace h := im c h
      refine j_bipush C (v := (-5)) dX0_fit_35 rfl ?_
      obtain ⟨rfl, rfl⟩ := sp2 h
      exact j_iret C dX0_fit_37 (Nat.le_of_ble_eq_true rfl) (Nat.le_of_ble_eq_true rfl) ⟨rfl, rfl⟩
    replace h := im c h
    refine j_iload_n C dX0_fit_24 rfl rfl ?_
    obtain ⟨rfl, rfl⟩ := sp2 h
    exact j_iret C dX0_fit_25 (Nat.le_of_ble_eq_true rfl) (Nat.le_of_ble_eq_true rfl) ⟨rfl, rfl⟩
  replace h := im c h
  refine j_iconst C (v := (-1)) dX0_fit_12 rfl ?_
  obtain ⟨rfl, rfl⟩ := sp2 h
  exact j_iret C dX0_fit_13 (Nat.le_of_ble_eq_true rfl) (Nat.le_of_ble_eq_true rfl) ⟨rfl, rfl⟩
/-! nearestPost -/
def x_nearestPost_b35 (N : Nat) (T : XS) (l1 : Int32) (l2 : Int32) (l4 : Int32) (k6 : Int32 → Int32 → Option Int32) : Option Int32 :=
  chk 9 l4 (
  (T.2.2.1 0 l4.toNatClampNeg).bind fun a2 =>
  (getO T a2 3).bind fun q6 =>
  (p_farFrom T a2 l1 l2).bind fun v5 =>
  nm (l4 + 1) fun x8 =>
  k6 v5 x8)
theorem wx_nearestPost_b35 {κ : jK} (hκ : jX κ) (N : Nat) {Γ : jG} (C : jC κ Γ cX0_nearestPost 5 RX0 (some .int)) {G : Nat → Nat} {T : XS} (l1 : Int32) (l2 : Int32) (l4 : Int32) (k6 : Int32 → Int32 → Option Int32) {v : Int32} (hk6 : ∀ (l3 : Int32) (l4 : Int32), k6 l3 l4 = some v → J κ Γ (2, 0, 0, (fun u w' => u = some (.int v) ∧ w' = wX κ G T)) 5 (wX κ G T) 0 0 6 [some (.ref (G 0)), some (.int l1), some (.int l2), some (.int l3), some (.int l4)] []) : x_nearestPost_b35 N T l1 l2 l4 k6 = some v → J κ Γ (2, 0, 0, (fun u w' => u = some (.int v) ∧ w' = wX κ G T)) 5 (wX κ G T) 0 0 35 [some (.ref (G 0)), some (.int l1), some (.int l2), none, some (.int l4)] [] := by
  intro  h
  rw [x_nearestPost_b35] at h
  refine j_aload_n C dX0_nearestPost_35 rfl rfl ?_
  refine jx_geta hκ C 0 (by decide) rfl rfl q187 dX0_nearestPost_36 ?_
  refine j_iload C dX0_nearestPost_39 rfl ?_
  obtain ⟨b1, h⟩ := chk_some h
  obtain ⟨a2, w3, h⟩ := ob h
  refine jx_aaldP hκ C 0 rfl rfl b1 w3 dX0_nearestPost_41 ?_
  refine j_iload_n C dX0_nearestPost_42 rfl rfl ?_
  refine j_iload_n C dX0_nearestPost_43 rfl rfl ?_
  obtain ⟨q6, g7, h⟩ := ob h
  obtain ⟨v5, e4, h⟩ := ob h
  refine jx_Oi hκ C (mt_p_farFrom hκ G e4) hG_p_farFrom_x hy_p_farFrom rfl g7 (by decide) rfl rfl dX0_nearestPost_44 (jfit.of (Nat.le_of_ble_eq_true rfl) (by decide) (Nat.le_of_ble_eq_true rfl) (Nat.le_of_ble_eq_true rfl) (Nat.le_of_ble_eq_true rfl)) rfl ?_
  refine j_istore_n C dX0_nearestPost_47 rfl (by decide) rfl ?_
  refine j_iincN C h dX0_nearestPost_48 rfl rfl (by decide) rfl (fun x8 h => ?_)
  refine j_goto C dX0_nearestPost_51 (tgt := 6) (by decide) ?_
  exact j_sub (hk6 _ _ h) ⟨rfl, ⟨rfl, ⟨rfl, ⟨rfl, ⟨rfl, trivial⟩⟩⟩⟩⟩
def x_nearestPost_b6 (N : Nat) (T : XS) (l1 : Int32) (l2 : Int32) : Nat → Int32 → Int32 → Option Int32
  | 0, _, _ => none
  | n + 1, l3, l4 =>
    (if (T.1 1) ≤ l4 then
    some (jmax 0 l3)
    else
    (if l3 < 0 then
    x_nearestPost_b35 N T l1 l2 l4 (fun y3 y4 => x_nearestPost_b6 N T l1 l2 n y3 y4)
    else
    chk 9 l4 (
    (T.2.2.1 0 l4.toNatClampNeg).bind fun a2 =>
    (getO T a2 3).bind fun q6 =>
    (p_farFrom T a2 l1 l2).bind fun v5 =>
    (if l3 ≤ v5 then
    nm (l4 + 1) fun x8 =>
    x_nearestPost_b6 N T l1 l2 n l3 x8
    else
    x_nearestPost_b35 N T l1 l2 l4 (fun y3 y4 => x_nearestPost_b6 N T l1 l2 n y3 y4)))))
theorem wx_nearestPost_b6 {κ : jK} (hκ : jX κ) (N : Nat) {Γ : jG} (C : jC κ Γ cX0_nearestPost 5 RX0 (some .int)) {G : Nat → Nat} {T : XS} (l1 : Int32) (l2 : Int32) {v : Int32} : ∀ (n : Nat) (l3 : Int32) (l4 : Int32), x_nearestPost_b6 N T l1 l2 n l3 l4 = some v → J κ Γ (2, 0, 0, (fun u w' => u = some (.int v) ∧ w' = wX κ G T)) 5 (wX κ G T) 0 0 6 [some (.ref (G 0)), some (.int l1), some (.int l2), some (.int l3), some (.int l4)] [] := by
  intro n
  induction n with
  | zero => intro _ _ h; cases h
  | succ n ih =>
    intro l3 l4 h
    rw [x_nearestPost_b6] at h
    refine j_iload C dX0_nearestPost_6 rfl ?_
    refine j_aload_n C dX0_nearestPost_8 rfl rfl ?_
    refine jx_geti hκ C 1 (by decide) rfl q188 dX0_nearestPost_9 ?_
    refine j_icmp_ge C dX0_nearestPost_12 (tgt := 54) (by decide) (fun c => ?_) (fun c => ?_)
    · replace h := ip c h
      refine j_iconst C (v := 0) dX0_nearestPost_54 rfl ?_
      refine j_iload_n C dX0_nearestPost_55 rfl rfl ?_
      refine j_mmax C dX0_nearestPost_56 q902 q695 q129 q696 (Nat.le_of_ble_eq_true rfl) (Nat.le_of_ble_eq_true rfl) (Nat.le_of_ble_eq_true rfl) (Nat.le_of_ble_eq_true rfl) ?_
      obtain rfl := sp1 h
      exact j_iret C dX0_nearestPost_59 (Nat.le_of_ble_eq_true rfl) (Nat.le_of_ble_eq_true rfl) ⟨rfl, rfl⟩
    replace h := im c h
    refine j_iload_n C dX0_nearestPost_15 rfl rfl ?_
    refine j_if_lt C dX0_nearestPost_16 (tgt := 35) (by decide) (fun c => ?_) (fun c => ?_)
    · replace h := ip c h
      exact j_sub (wx_nearestPost_b35 hκ N C _ _ _ _ (fun _ _ h => ih _ _ h) h) ⟨rfl, ⟨rfl, ⟨rfl, ⟨rfl, trivial⟩⟩⟩⟩
    replace h := im c h
    refine j_aload_n C dX0_nearestPost_19 rfl rfl ?_
    refine jx_geta hκ C 0 (by decide) rfl rfl q187 dX0_nearestPost_20 ?_
    refine j_iload C dX0_nearestPost_23 rfl ?_
    obtain ⟨b1, h⟩ := chk_some h
    obtain ⟨a2, w3, h⟩ := ob h
    refine jx_aaldP hκ C 0 rfl rfl b1 w3 dX0_nearestPost_25 ?_
    refine j_iload_n C dX0_nearestPost_26 rfl rfl ?_
    refine j_iload_n C dX0_nearestPost_27 rfl rfl ?_
    obtain ⟨q6, g7, h⟩ := ob h
    obtain ⟨v5, e4, h⟩ := ob h
    refine jx_Oi hκ C (mt_p_farFrom hκ G e4) hG_p_farFrom_x hy_p_farFrom rfl g7 (by decide) rfl rfl dX0_nearestPost_28 (jfit.of (Nat.le_of_ble_eq_true rfl) (by decide) (Nat.le_of_ble_eq_true rfl) (Nat.le_of_ble_eq_true rfl) (Nat.le_of_ble_eq_true rfl)) rfl ?_
    refine j_iload_n C dX0_nearestPost_31 rfl rfl ?_
    refine j_icmp_ge C dX0_nearestPost_32 (tgt := 48) (by decide) (fun c => ?_) (fun c => ?_)
    · replace h := ip c h
      refine j_iincN C h dX0_nearestPost_48 rfl rfl (by decide) rfl (fun x8 h => ?_)
      refine j_goto C dX0_nearestPost_51 (tgt := 6) (by decide) ?_
      exact j_sub (ih _ _ h) ⟨rfl, ⟨rfl, ⟨rfl, ⟨rfl, ⟨rfl, trivial⟩⟩⟩⟩⟩
    replace h := im c h
    exact j_sub (wx_nearestPost_b35 hκ N C _ _ _ _ (fun _ _ h => ih _ _ h) h) ⟨rfl, ⟨rfl, ⟨rfl, ⟨rfl, trivial⟩⟩⟩⟩
def x_nearestPost (N : Nat) (T : XS) (p1 : Int32) (p2 : Int32) : Option Int32 :=
  x_nearestPost_b6 N T p1 p2 N (-2) 0
theorem mt_x_nearestPost {κ : jK} (hκ : jX κ) (N : Nat) (G : Nat → Nat) {T : XS} {p1 : Int32} {p2 : Int32} {v : Int32} (h : x_nearestPost N T p1 p2 = some v) : jM κ yX0_nearestPost (ws_ yX0_nearestPost cX0_nearestPost 5 (some .int)) 2 0 0 [.ref (G 0), .int p1, .int p2] (wX κ G T) (fun u w' => u = some (.int v) ∧ w' = wX κ G T) := by
  rw [x_nearestPost] at h
  refine jM.of (by decide) rfl (Nat.le_of_ble_eq_true rfl) fun Γ C _ => ?_
  show J κ Γ (2, 0, 0, (fun u w' => u = some (.int v) ∧ w' = wX κ G T)) 5 (wX κ G T) 0 0 0 [some (.ref (G 0)), some (.int p1), some (.int p2), none, none] []
  refine j_bipush C (v := (-2)) dX0_nearestPost_0 rfl ?_
  refine j_istore_n C dX0_nearestPost_2 rfl (by decide) rfl ?_
  refine j_iconst C (v := 0) dX0_nearestPost_3 rfl ?_
  refine j_istore C dX0_nearestPost_4 (by decide) rfl ?_
  exact j_sub (wx_nearestPost_b6 hκ N C _ _ N _ _ h) ⟨rfl, ⟨rfl, ⟨rfl, ⟨rfl, ⟨rfl, trivial⟩⟩⟩⟩⟩
/-! hang -/
def x_hang_b30 (N : Nat) (T : XS) (l1 : Int32) (l2 : Int32) : Nat → Int32 → Int32 → Int32 → Option Int32
  | 0, _, _, _ => none
  | n + 1, l3, l4, l5 =>
    (if 256 ≤ l5 then
    (if l2 = 0 then
    some l3
    else
    some l4)
    else
    nm (jrem l5 16) fun x1 =>
    nm (l5 / 16) fun x2 =>
    (if ((jabs (x1 - (T.1 2))) + (jabs (x2 - (T.1 3)))) ≤ l1 then
    (x_nearestPost N T x1 x2).bind fun v4 =>
    (if l3 < 0 then
    nm (l5 + 1) fun x5 =>
    x_hang_b30 N T l1 l2 n l5 v4 x5
    else
    (if l4 < v4 then
    nm (l5 + 1) fun x6 =>
    x_hang_b30 N T l1 l2 n l5 v4 x6
    else
    nm (l5 + 1) fun x7 =>
    x_hang_b30 N T l1 l2 n l3 l4 x7))
    else
    nm (l5 + 1) fun x8 =>
    x_hang_b30 N T l1 l2 n l3 l4 x8))
theorem wx_hang_b30 {κ : jK} (hκ : jX κ) (N : Nat) {Γ : jG} (C : jC κ Γ cX0_hang 9 RX0 (some .int)) {G : Nat → Nat} {T : XS} (l1 : Int32) (l2 : Int32) {v : Int32} : ∀ (n : Nat) (l3 : Int32) (l4 : Int32) (l5 : Int32), x_hang_b30 N T l1 l2 n l3 l4 l5 = some v → J κ Γ (3, 0, 0, (fun u w' => u = some (.int v) ∧ w' = wX κ G T)) 9 (wX κ G T) 0 0 30 [some (.ref (G 0)), some (.int l1), some (.int l2), some (.int l3), some (.int l4), some (.int l5), none, none, none] [] := by
  intro n
  induction n with
  | zero => intro _ _ _ h; cases h
  | succ n ih =>
    intro l3 l4 l5 h
    rw [x_hang_b30] at h
    refine j_iload C dX0_hang_30 rfl ?_
    refine j_sipush C (v := 256) dX0_hang_32 rfl ?_
    refine j_icmp_ge C dX0_hang_35 (tgt := 117) (by decide) (fun c => ?_) (fun c => ?_)
    · replace h := ip c h
      refine j_iload_n C dX0_hang_117 rfl rfl ?_
      refine j_if_ne C dX0_hang_118 (tgt := 125) (by decide) (fun c => ?_) (fun c => ?_)
      · replace h := im c h
        refine j_iload C dX0_hang_125 rfl ?_
        obtain rfl := sp1 h
        exact j_iret C dX0_hang_127 (Nat.le_of_ble_eq_true rfl) (Nat.le_of_ble_eq_true rfl) ⟨rfl, rfl⟩
      replace h := ip c h
      refine j_iload_n C dX0_hang_121 rfl rfl ?_
      refine j_goto C dX0_hang_122 (tgt := 127) (by decide) ?_
      obtain rfl := sp1 h
      exact j_iret C dX0_hang_127 (Nat.le_of_ble_eq_true rfl) (Nat.le_of_ble_eq_true rfl) ⟨rfl, rfl⟩
    replace h := im c h
    refine j_iload C dX0_hang_38 rfl ?_
    refine j_bipush C (v := 16) dX0_hang_40 rfl ?_
    refine j_irem C dX0_hang_42 (by decide) ?_
    refine j_nmI h (fun x1 h => ?_)
    refine j_istore C dX0_hang_43 (by decide) rfl ?_
    refine j_iload C dX0_hang_45 rfl ?_
    refine j_bipush C (v := 16) dX0_hang_47 rfl ?_
    refine j_idiv C dX0_hang_49 (by decide) ?_
    refine j_nmI h (fun x2 h => ?_)
    refine j_istore C dX0_hang_50 (by decide) rfl ?_
    refine j_iload C dX0_hang_52 rfl ?_
    refine j_aload_n C dX0_hang_54 rfl rfl ?_
    refine jx_geti hκ C 2 (by decide) rfl q189 dX0_hang_55 ?_
    refine j_isub C dX0_hang_58 ?_
    refine j_mabs C dX0_hang_59 q1116 q860 q129 q861 (Nat.le_of_ble_eq_true rfl) (Nat.le_of_ble_eq_true rfl) (Nat.le_of_ble_eq_true rfl) (Nat.le_of_ble_eq_true rfl) ?_
    refine j_iload C dX0_hang_62 rfl ?_
    refine j_aload_n C dX0_hang_64 rfl rfl ?_
    refine jx_geti hκ C 3 (by decide) rfl q190 dX0_hang_65 ?_
    refine j_isub C dX0_hang_68 ?_
    refine j_mabs C dX0_hang_69 q1116 q860 q129 q861 (Nat.le_of_ble_eq_true rfl) (Nat.le_of_ble_eq_true rfl) (Nat.le_of_ble_eq_true rfl) (Nat.le_of_ble_eq_true rfl) ?_
    refine j_iadd C dX0_hang_72 ?_
    refine j_iload_n C dX0_hang_73 rfl rfl ?_
    refine j_icmp_le C dX0_hang_74 (tgt := 80) (by decide) (fun c => ?_) (fun c => ?_)
    · replace h := ip c h
      refine j_aload_n C dX0_hang_80 rfl rfl ?_
      refine j_iload C dX0_hang_81 rfl ?_
      refine j_iload C dX0_hang_83 rfl ?_
      obtain ⟨v4, e3, h⟩ := ob h
      refine jx_Vi hκ C (mt_x_nearestPost hκ N G e3) hG_x_nearestPost hy_x_nearestPost rfl rfl dX0_hang_85 (jfit.of (Nat.le_of_ble_eq_true rfl) (by decide) (Nat.le_of_ble_eq_true rfl) (Nat.le_of_ble_eq_true rfl) (Nat.le_of_ble_eq_true rfl)) rfl ?_
      refine j_istore C dX0_hang_88 (by decide) rfl ?_
      refine j_iload_n C dX0_hang_90 rfl rfl ?_
      refine j_if_lt C dX0_hang_91 (tgt := 104) (by decide) (fun c => ?_) (fun c => ?_)
      · replace h := ip c h
        refine j_iload C dX0_hang_104 rfl ?_
        refine j_istore_n C dX0_hang_106 rfl (by decide) rfl ?_
        refine j_iload C dX0_hang_107 rfl ?_
        refine j_istore C dX0_hang_109 (by decide) rfl ?_
        refine j_iincN C h dX0_hang_111 rfl rfl (by decide) rfl (fun x5 h => ?_)
        refine j_goto C dX0_hang_114 (tgt := 30) (by decide) ?_
        exact j_sub (ih _ _ _ h) ⟨rfl, ⟨rfl, ⟨rfl, ⟨rfl, ⟨rfl, ⟨rfl, trivial⟩⟩⟩⟩⟩⟩
      replace h := im c h
      refine j_iload C dX0_hang_94 rfl ?_
      refine j_iload C dX0_hang_96 rfl ?_
      refine j_icmp_gt C dX0_hang_98 (tgt := 104) (by decide) (fun c => ?_) (fun c => ?_)
      · replace h := ip c h
        refine j_iload C dX0_hang_104 rfl ?_
        refine j_istore_n C dX0_hang_106 rfl (by decide) rfl ?_
        refine j_iload C dX0_hang_107 rfl ?_
        refine j_istore C dX0_hang_109 (by decide) rfl ?_
        refine j_iincN C h dX0_hang_111 rfl rfl (by decide) rfl (fun x6 h => ?_)
        refine j_goto C dX0_hang_114 (tgt := 30) (by decide) ?_
        exact j_sub (ih _ _ _ h) ⟨rfl, ⟨rfl, ⟨rfl, ⟨rfl, ⟨rfl, ⟨rfl, trivial⟩⟩⟩⟩⟩⟩
      replace h := im c h
      refine j_goto C dX0_hang_101 (tgt := 111) (by decide) ?_
      refine j_iincN C h dX0_hang_111 rfl rfl (by decide) rfl (fun x7 h => ?_)
      refine j_goto C dX0_hang_114 (tgt := 30) (by decide) ?_
      exact j_sub (ih _ _ _ h) ⟨rfl, ⟨rfl, ⟨rfl, ⟨rfl, ⟨rfl, ⟨rfl, trivial⟩⟩⟩⟩⟩⟩
    replace h := im c h
    refine j_goto C dX0_hang_77 (tgt := 111) (by decide) ?_
    refine j_iincN C h dX0_hang_111 rfl rfl (by decide) rfl (fun x8 h => ?_)
    refine j_goto C dX0_hang_114 (tgt := 30) (by decide) ?_
    exact j_sub (ih _ _ _ h) ⟨rfl, ⟨rfl, ⟨rfl, ⟨rfl, ⟨rfl, ⟨rfl, trivial⟩⟩⟩⟩⟩⟩
def x_hang (N : Nat) (T : XS) (p1 : Int32) (p2 : Int32) : Option Int32 :=
  (x_in p1 0 30).bind fun v2 =>
  (if (b2i v2) = 0 then
  some (-1)
  else
  (x_in p2 0 1).bind fun v4 =>
  (if (b2i v4) = 0 then
  some (-1)
  else
  x_hang_b30 N T p1 p2 N (-2) 0 0))
theorem mt_x_hang {κ : jK} (hκ : jX κ) (N : Nat) (G : Nat → Nat) {T : XS} {p1 : Int32} {p2 : Int32} {v : Int32} (h : x_hang N T p1 p2 = some v) : jM κ yX0_hang (ws_ yX0_hang cX0_hang 9 (some .int)) 3 0 0 [.ref (G 0), .int p1, .int p2] (wX κ G T) (fun u w' => u = some (.int v) ∧ w' = wX κ G T) := by
  rw [x_hang] at h
  refine jM.of (by decide) rfl (Nat.le_of_ble_eq_true rfl) fun Γ C _ => ?_
  show J κ Γ (3, 0, 0, (fun u w' => u = some (.int v) ∧ w' = wX κ G T)) 9 (wX κ G T) 0 0 0 [some (.ref (G 0)), some (.int p1), some (.int p2), none, none, none, none, none, none] []
  refine j_iload_n C dX0_hang_0 rfl rfl ?_
  refine j_iconst C (v := 0) dX0_hang_1 rfl ?_
  refine j_bipush C (v := 30) dX0_hang_2 rfl ?_
  obtain ⟨v2, e1, h⟩ := ob h
  refine j_Si hκ.1.1 C (mt_x_in hκ e1) hG_x_in hy_x_in rfl dX0_hang_4 (jfit.of (Nat.le_of_ble_eq_true rfl) (by decide) (Nat.le_of_ble_eq_true rfl) (Nat.le_of_ble_eq_true rfl) (Nat.le_of_ble_eq_true rfl)) rfl ?_
  refine j_if_eq C dX0_hang_7 (tgt := 19) (by decide) (fun c => ?_) (fun c => ?_)
  · replace h := ip c h
    refine j_iconst C (v := (-1)) dX0_hang_19 rfl ?_
    obtain rfl := sp1 h
    exact j_iret C dX0_hang_20 (Nat.le_of_ble_eq_true rfl) (Nat.le_of_ble_eq_true rfl) ⟨rfl, rfl⟩
  replace h := im c h
  refine j_iload_n C dX0_hang_10 rfl rfl ?_
  refine j_iconst C (v := 0) dX0_hang_11 rfl ?_
  refine j_iconst C (v := 1) dX0_hang_12 rfl ?_
  obtain ⟨v4, e3, h⟩ := ob h
  refine j_Si hκ.1.1 C (mt_x_in hκ e3) hG_x_in hy_x_in rfl dX0_hang_13 (jfit.of (Nat.le_of_ble_eq_true rfl) (by decide) (Nat.le_of_ble_eq_true rfl) (Nat.le_of_ble_eq_true rfl) (Nat.le_of_ble_eq_true rfl)) rfl ?_
  refine j_if_ne C dX0_hang_16 (tgt := 21) (by decide) (fun c => ?_) (fun c => ?_)
  · replace h := im c h
    refine j_bipush C (v := (-2)) dX0_hang_21 rfl ?_
    refine j_istore_n C dX0_hang_23 rfl (by decide) rfl ?_
    refine j_iconst C (v := 0) dX0_hang_24 rfl ?_
    refine j_istore C dX0_hang_25 (by decide) rfl ?_
    refine j_iconst C (v := 0) dX0_hang_27 rfl ?_
    refine j_istore C dX0_hang_28 (by decide) rfl ?_
    exact j_sub (wx_hang_b30 hκ N C _ _ N _ _ _ h) ⟨rfl, ⟨rfl, ⟨rfl, ⟨rfl, ⟨rfl, ⟨rfl, trivial⟩⟩⟩⟩⟩⟩
  replace h := ip c h
  refine j_iconst C (v := (-1)) dX0_hang_19 rfl ?_
  obtain rfl := sp1 h
  exact j_iret C dX0_hang_20 (Nat.le_of_ble_eq_true rfl) (Nat.le_of_ble_eq_true rfl) ⟨rfl, rfl⟩
/-! roundFrom -/
def x_roundFrom_b72 (N : Nat) (l1 : Int32) (l2 : Int32) (l4 : Int32) (l5 : Int32) (k5 : XS → Int32 → Int32 → Option (Int32 × XS)) (T : XS) (s1 : Int32) (s2 : Int32) (s3 : Int32) : Option (Int32 × XS) :=
  nm (s1 + (s2 + s3)) fun x1 =>
  nm (xI T 28 l5) fun T2 =>
  nm (l4 + 1) fun x3 =>
  k5 T2 x1 x3
theorem wx_roundFrom_b72 {κ : jK} (hκ : jX κ) (N : Nat) {Γ : jG} (C : jC κ Γ cX0_roundFrom 6 RX0 (some .int)) {G : Nat → Nat} (l1 : Int32) (l2 : Int32) (l4 : Int32) (l5 : Int32) (k5 : XS → Int32 → Int32 → Option (Int32 × XS)) {v : Int32} {T' : XS} (hk5 : ∀ (T : XS) (l3 : Int32) (l4 : Int32), k5 T l3 l4 = some (v, T') → J κ Γ (4, 0, 0, (fun u w' => u = some (.int v) ∧ w' = wX κ G T')) 6 (wX κ G T) 0 0 5 [some (.ref (G 0)), some (.int l1), some (.int l2), some (.int l3), some (.int l4), none] []) : ∀ (T : XS) (s1 : Int32) (s2 : Int32) (s3 : Int32), x_roundFrom_b72 N l1 l2 l4 l5 k5 T s1 s2 s3 = some (v, T') → J κ Γ (4, 0, 0, (fun u w' => u = some (.int v) ∧ w' = wX κ G T')) 6 (wX κ G T) 0 0 72 [some (.ref (G 0)), some (.int l1), some (.int l2), none, some (.int l4), some (.int l5)] [.int s3, .int s2, .int s1] := by
  intro T s1 s2 s3 h
  rw [x_roundFrom_b72] at h
  refine j_iadd C dX0_roundFrom_72 ?_
  refine j_iadd C dX0_roundFrom_73 ?_
  refine j_nmI h (fun x1 h => ?_)
  refine j_istore_n C dX0_roundFrom_74 rfl (by decide) rfl ?_
  refine j_aload_n C dX0_roundFrom_75 rfl rfl ?_
  refine j_iload C dX0_roundFrom_76 rfl ?_
  refine jx_puti hκ C 28 (by decide) rfl rfl rfl q217 dX0_roundFrom_78 ?_
  refine jx_nmT h (fun T2 h => ?_)
  refine j_iincN C h dX0_roundFrom_81 rfl rfl (by decide) rfl (fun x3 h => ?_)
  refine j_goto C dX0_roundFrom_84 (tgt := 5) (by decide) ?_
  exact j_sub (hk5 _ _ _ h) ⟨rfl, ⟨rfl, ⟨rfl, ⟨rfl, ⟨rfl, trivial⟩⟩⟩⟩⟩
def x_roundFrom_b34 (N : Nat) (l1 : Int32) (l2 : Int32) (l3 : Int32) (l4 : Int32) (k5 : XS → Int32 → Int32 → Option (Int32 × XS)) (T : XS) (s1 : Int32) : Option (Int32 × XS) :=
  nz (T.1 1) (
  nm (jrem s1 (T.1 1)) fun x2 =>
  (if 0 ≤ (T.1 28) then
  (x_between T (T.1 28) x2).bind fun v4 =>
  x_roundFrom_b72 N l1 l2 l4 x2 k5 T l3 (T.1 5) v4
  else
  (x_fromGate T x2).bind fun v6 =>
  x_roundFrom_b72 N l1 l2 l4 x2 k5 T l3 (T.1 5) v6))
theorem wx_roundFrom_b34 {κ : jK} (hκ : jX κ) (N : Nat) {Γ : jG} (C : jC κ Γ cX0_roundFrom 6 RX0 (some .int)) {G : Nat → Nat} (l1 : Int32) (l2 : Int32) (l3 : Int32) (l4 : Int32) (k5 : XS → Int32 → Int32 → Option (Int32 × XS)) {v : Int32} {T' : XS} (hk5 : ∀ (T : XS) (l3 : Int32) (l4 : Int32), k5 T l3 l4 = some (v, T') → J κ Γ (4, 0, 0, (fun u w' => u = some (.int v) ∧ w' = wX κ G T')) 6 (wX κ G T) 0 0 5 [some (.ref (G 0)), some (.int l1), some (.int l2), some (.int l3), some (.int l4), none] []) : ∀ (T : XS) (s1 : Int32), x_roundFrom_b34 N l1 l2 l3 l4 k5 T s1 = some (v, T') → J κ Γ (4, 0, 0, (fun u w' => u = some (.int v) ∧ w' = wX κ G T')) 6 (wX κ G T) 0 0 34 [some (.ref (G 0)), some (.int l1), some (.int l2), some (.int l3), some (.int l4), none] [.int s1] := by
  intro T s1 h
  rw [x_roundFrom_b34] at h
  refine j_aload_n C dX0_roundFrom_34 rfl rfl ?_
  refine jx_geti hκ C 1 (by decide) rfl q188 dX0_roundFrom_35 ?_
  obtain ⟨z1, h⟩ := nz_some h
  refine j_irem C dX0_roundFrom_38 z1 ?_
  refine j_nmI h (fun x2 h => ?_)
  refine j_istore C dX0_roundFrom_39 (by decide) rfl ?_
  refine j_iload_n C dX0_roundFrom_41 rfl rfl ?_
  refine j_aload_n C dX0_roundFrom_42 rfl rfl ?_
  refine jx_geti hκ C 5 (by decide) rfl q192 dX0_roundFrom_43 ?_
  refine j_aload_n C dX0_roundFrom_46 rfl rfl ?_
  refine jx_geti hκ C 28 (by decide) rfl q217 dX0_roundFrom_47 ?_
  refine j_if_ge C dX0_roundFrom_50 (tgt := 62) (by decide) (fun c => ?_) (fun c => ?_)
  · replace h := ip c h
    refine j_aload_n C dX0_roundFrom_62 rfl rfl ?_
    refine j_aload_n C dX0_roundFrom_63 rfl rfl ?_
    refine jx_geti hκ C 28 (by decide) rfl q217 dX0_roundFrom_64 ?_
    refine j_iload C dX0_roundFrom_67 rfl ?_
    obtain ⟨v4, e3, h⟩ := ob h
    refine jx_Vi hκ C (mt_x_between hκ G e3) hG_x_between hy_x_between rfl rfl dX0_roundFrom_69 (jfit.of (Nat.le_of_ble_eq_true rfl) (by decide) (Nat.le_of_ble_eq_true rfl) (Nat.le_of_ble_eq_true rfl) (Nat.le_of_ble_eq_true rfl)) rfl ?_
    exact j_sub (wx_roundFrom_b72 hκ N C _ _ _ _ _ hk5 _ _ _ _ h) ⟨rfl, ⟨rfl, ⟨rfl, ⟨rfl, ⟨rfl, trivial⟩⟩⟩⟩⟩
  replace h := im c h
  refine j_aload_n C dX0_roundFrom_53 rfl rfl ?_
  refine j_iload C dX0_roundFrom_54 rfl ?_
  obtain ⟨v6, e5, h⟩ := ob h
  refine jx_Vi hκ C (mt_x_fromGate hκ G e5) hG_x_fromGate hy_x_fromGate rfl rfl dX0_roundFrom_56 (jfit.of (Nat.le_of_ble_eq_true rfl) (by decide) (Nat.le_of_ble_eq_true rfl) (Nat.le_of_ble_eq_true rfl) (Nat.le_of_ble_eq_true rfl)) rfl ?_
  refine j_goto C dX0_roundFrom_59 (tgt := 72) (by decide) ?_
  exact j_sub (wx_roundFrom_b72 hκ N C _ _ _ _ _ hk5 _ _ _ _ h) ⟨rfl, ⟨rfl, ⟨rfl, ⟨rfl, ⟨rfl, trivial⟩⟩⟩⟩⟩
def x_roundFrom_b5 (N : Nat) (l1 : Int32) (l2 : Int32) : Nat → XS → Int32 → Int32 → Option (Int32 × XS)
  | 0, _, _, _ => none
  | n + 1, T, l3, l4 =>
    (if (T.1 1) ≤ l4 then
    some (l3, T)
    else
    (if l2 = 0 then
    x_roundFrom_b34 N l1 l2 l3 l4 (fun t y3 y4 => x_roundFrom_b5 N l1 l2 n t y3 y4) T (l1 + l4)
    else
    x_roundFrom_b34 N l1 l2 l3 l4 (fun t y3 y4 => x_roundFrom_b5 N l1 l2 n t y3 y4) T ((l1 - l4) + (T.1 1))))
theorem wx_roundFrom_b5 {κ : jK} (hκ : jX κ) (N : Nat) {Γ : jG} (C : jC κ Γ cX0_roundFrom 6 RX0 (some .int)) {G : Nat → Nat} (l1 : Int32) (l2 : Int32) {v : Int32} {T' : XS} : ∀ (n : Nat) (T : XS) (l3 : Int32) (l4 : Int32), x_roundFrom_b5 N l1 l2 n T l3 l4 = some (v, T') → J κ Γ (4, 0, 0, (fun u w' => u = some (.int v) ∧ w' = wX κ G T')) 6 (wX κ G T) 0 0 5 [some (.ref (G 0)), some (.int l1), some (.int l2), some (.int l3), some (.int l4), none] [] := by
  intro n
  induction n with
  | zero => intro _ _ _ h; cases h
  | succ n ih =>
    intro T l3 l4 h
    rw [x_roundFrom_b5] at h
    refine j_iload C dX0_roundFrom_5 rfl ?_
    refine j_aload_n C dX0_roundFrom_7 rfl rfl ?_
    refine jx_geti hκ C 1 (by decide) rfl q188 dX0_roundFrom_8 ?_
    refine j_icmp_ge C dX0_roundFrom_11 (tgt := 87) (by decide) (fun c => ?_) (fun c => ?_)
    · replace h := ip c h
      refine j_iload_n C dX0_roundFrom_87 rfl rfl ?_
      obtain ⟨rfl, rfl⟩ := sp2 h
      exact j_iret C dX0_roundFrom_88 (Nat.le_of_ble_eq_true rfl) (Nat.le_of_ble_eq_true rfl) ⟨rfl, rfl⟩
    replace h := im c h
    refine j_iload_n C dX0_roundFrom_14 rfl rfl ?_
    refine j_if_eq C dX0_roundFrom_15 (tgt := 30) (by decide) (fun c => ?_) (fun c => ?_)
    · replace h := ip c h
      refine j_iload_n C dX0_roundFrom_30 rfl rfl ?_
      refine j_iload C dX0_roundFrom_31 rfl ?_
      refine j_iadd C dX0_roundFrom_33 ?_
      exact j_sub (wx_roundFrom_b34 hκ N C _ _ _ _ _ (fun _ _ _ h => ih _ _ _ h) _ _ h) ⟨rfl, ⟨rfl, ⟨rfl, ⟨rfl, ⟨rfl, trivial⟩⟩⟩⟩⟩
    replace h := im c h
    refine j_iload_n C dX0_roundFrom_18 rfl rfl ?_
    refine j_iload C dX0_roundFrom_19 rfl ?_
    refine j_isub C dX0_roundFrom_21 ?_
    refine j_aload_n C dX0_roundFrom_22 rfl rfl ?_
    refine jx_geti hκ C 1 (by decide) rfl q188 dX0_roundFrom_23 ?_
    refine j_iadd C dX0_roundFrom_26 ?_
    refine j_goto C dX0_roundFrom_27 (tgt := 34) (by decide) ?_
    exact j_sub (wx_roundFrom_b34 hκ N C _ _ _ _ _ (fun _ _ _ h => ih _ _ _ h) _ _ h) ⟨rfl, ⟨rfl, ⟨rfl, ⟨rfl, ⟨rfl, trivial⟩⟩⟩⟩⟩
def x_roundFrom (N : Nat) (T : XS) (p1 : Int32) (p2 : Int32) : Option (Int32 × XS) :=
  x_roundFrom_b5 N p1 p2 N T 0 0
theorem mt_x_roundFrom {κ : jK} (hκ : jX κ) (N : Nat) (G : Nat → Nat) {T : XS} {p1 : Int32} {p2 : Int32} {v : Int32} {T' : XS} (h : x_roundFrom N T p1 p2 = some (v, T')) : jM κ yX0_roundFrom (ws_ yX0_roundFrom cX0_roundFrom 6 (some .int)) 4 0 0 [.ref (G 0), .int p1, .int p2] (wX κ G T) (fun u w' => u = some (.int v) ∧ w' = wX κ G T') := by
  rw [x_roundFrom] at h
  refine jM.of (by decide) rfl (Nat.le_of_ble_eq_true rfl) fun Γ C _ => ?_
  show J κ Γ (4, 0, 0, (fun u w' => u = some (.int v) ∧ w' = wX κ G T')) 6 (wX κ G T) 0 0 0 [some (.ref (G 0)), some (.int p1), some (.int p2), none, none, none] []
  refine j_iconst C (v := 0) dX0_roundFrom_0 rfl ?_
  refine j_istore_n C dX0_roundFrom_1 rfl (by decide) rfl ?_
  refine j_iconst C (v := 0) dX0_roundFrom_2 rfl ?_
  refine j_istore C dX0_roundFrom_3 (by decide) rfl ?_
  exact j_sub (wx_roundFrom_b5 hκ N C _ _ N _ _ _ h) ⟨rfl, ⟨rfl, ⟨rfl, ⟨rfl, ⟨rfl, trivial⟩⟩⟩⟩⟩
/-! drawn -/
def x_drawn_b74 (N : Nat) (l2 : Int32) (l3 : Int32) (l5 : Int32) (l6 : Int32) (l7 : Int32) (k47 : XS → Int32 → Int32 → Int32 → Int32 → Option (Int32 × XS)) : Nat → XS → Int32 → Int32 → Int32 → Option (Int32 × XS)
  | 0, _, _, _, _ => none
  | n + 1, T, l4, l8, l9 =>
    (if (jrem l2 10) ≤ l9 then
    nm (l5 + l8) fun x1 =>
    nm (jmax l6 l8) fun x2 =>
    nm (l7 + 1) fun x3 =>
    k47 T l4 x1 x2 x3
    else
    nm ((l4 * 1103515245) + 12345) fun x4 =>
    nz (T.1 1) (
    (if ((jushr x4 16) &&& 1) = 1 then
    b2 (x_roundFrom N T (jrem (jushr x4 8) (T.1 1)) 1) fun v12 T13 =>
    nm (l8 + v12) fun x14 =>
    nm (l9 + 1) fun x15 =>
    x_drawn_b74 N l2 l3 l5 l6 l7 k47 n T13 x4 x14 x15
    else
    b2 (x_roundFrom N T (jrem (jushr x4 8) (T.1 1)) 0) fun v7 T8 =>
    nm (l8 + v7) fun x9 =>
    nm (l9 + 1) fun x10 =>
    x_drawn_b74 N l2 l3 l5 l6 l7 k47 n T8 x4 x9 x10)))
theorem wx_drawn_b74 {κ : jK} (hκ : jX κ) (N : Nat) {Γ : jG} (C : jC κ Γ cX0_drawn 10 RX0 (some .int)) {G : Nat → Nat} (l2 : Int32) (l3 : Int32) (l5 : Int32) (l6 : Int32) (l7 : Int32) (k47 : XS → Int32 → Int32 → Int32 → Int32 → Option (Int32 × XS)) {v : Int32} {T' : XS} (hk47 : ∀ (T : XS) (l4 : Int32) (l5 : Int32) (l6 : Int32) (l7 : Int32), k47 T l4 l5 l6 l7 = some (v, T') → J κ Γ (5, 0, 0, (fun u w' => u = some (.int v) ∧ w' = wX κ G T')) 10 (wX κ G T) 0 0 47 [some (.ref (G 0)), none, some (.int l2), some (.int l3), some (.int l4), some (.int l5), some (.int l6), some (.int l7), none, none] []) : ∀ (n : Nat) (T : XS) (l4 : Int32) (l8 : Int32) (l9 : Int32), x_drawn_b74 N l2 l3 l5 l6 l7 k47 n T l4 l8 l9 = some (v, T') → J κ Γ (5, 0, 0, (fun u w' => u = some (.int v) ∧ w' = wX κ G T')) 10 (wX κ G T) 0 0 74 [some (.ref (G 0)), none, some (.int l2), some (.int l3), some (.int l4), some (.int l5), some (.int l6), some (.int l7), some (.int l8), some (.int l9)] [] := by
  intro n
  induction n with
  | zero => intro _ _ _ _ h; cases h
  | succ n ih =>
    intro T l4 l8 l9 h
    rw [x_drawn_b74] at h
    refine j_iload C dX0_drawn_74 rfl ?_
    refine j_iload_n C dX0_drawn_76 rfl rfl ?_
    refine j_bipush C (v := 10) dX0_drawn_77 rfl ?_
    refine j_irem C dX0_drawn_79 (by decide) ?_
    refine j_icmp_ge C dX0_drawn_80 (tgt := 136) (by decide) (fun c => ?_) (fun c => ?_)
    · replace h := ip c h
      refine j_iload C dX0_drawn_136 rfl ?_
      refine j_iload C dX0_drawn_138 rfl ?_
      refine j_iadd C dX0_drawn_140 ?_
      refine j_nmI h (fun x1 h => ?_)
      refine j_istore C dX0_drawn_141 (by decide) rfl ?_
      refine j_iload C dX0_drawn_143 rfl ?_
      refine j_iload C dX0_drawn_145 rfl ?_
      refine j_mmax C dX0_drawn_147 q902 q695 q129 q696 (Nat.le_of_ble_eq_true rfl) (Nat.le_of_ble_eq_true rfl) (Nat.le_of_ble_eq_true rfl) (Nat.le_of_ble_eq_true rfl) ?_
      refine j_nmI h (fun x2 h => ?_)
      refine j_istore C dX0_drawn_150 (by decide) rfl ?_
      refine j_iincN C h dX0_drawn_152 rfl rfl (by decide) rfl (fun x3 h => ?_)
      refine j_goto C dX0_drawn_155 (tgt := 47) (by decide) ?_
      exact j_sub (hk47 _ _ _ _ _ h) ⟨rfl, ⟨rfl, ⟨rfl, ⟨rfl, ⟨rfl, ⟨rfl, ⟨rfl, trivial⟩⟩⟩⟩⟩⟩⟩
    replace h := im c h
    refine j_iload C dX0_drawn_83 rfl ?_
    refine j_ldc_w C (v := 1103515245) dX0_drawn_85 q1125 ?_
    refine j_imul C dX0_drawn_88 ?_
    refine j_sipush C (v := 12345) dX0_drawn_89 rfl ?_
    refine j_iadd C dX0_drawn_92 ?_
    refine j_nmI h (fun x4 h => ?_)
    refine j_istore C dX0_drawn_93 (by decide) rfl ?_
    refine j_iload C dX0_drawn_95 rfl ?_
    refine j_aload_n C dX0_drawn_97 rfl rfl ?_
    refine j_iload C dX0_drawn_98 rfl ?_
    refine j_bipush C (v := 8) dX0_drawn_100 rfl ?_
    refine j_iushr C dX0_drawn_102 ?_
    refine j_aload_n C dX0_drawn_103 rfl rfl ?_
    refine jx_geti hκ C 1 (by decide) rfl q188 dX0_drawn_104 ?_
    obtain ⟨z5, h⟩ := nz_some h
    refine j_irem C dX0_drawn_107 z5 ?_
    refine j_iload C dX0_drawn_108 rfl ?_
    refine j_bipush C (v := 16) dX0_drawn_110 rfl ?_
    refine j_iushr C dX0_drawn_112 ?_
    refine j_iconst C (v := 1) dX0_drawn_113 rfl ?_
    refine j_iand C dX0_drawn_114 ?_
    refine j_iconst C (v := 1) dX0_drawn_115 rfl ?_
    refine j_icmp_ne C dX0_drawn_116 (tgt := 123) (by decide) (fun c => ?_) (fun c => ?_)
    · replace h := im c h
      refine j_iconst C (v := 0) dX0_drawn_123 rfl ?_
      obtain ⟨v7, T8, e6, h⟩ := ob2 h
      refine jx_Vi hκ C (mt_x_roundFrom hκ N G e6) hG_x_roundFrom hy_x_roundFrom rfl rfl dX0_drawn_124 (jfit.of (Nat.le_of_ble_eq_true rfl) (by decide) (Nat.le_of_ble_eq_true rfl) (Nat.le_of_ble_eq_true rfl) (Nat.le_of_ble_eq_true rfl)) rfl ?_
      refine j_iadd C dX0_drawn_127 ?_
      refine j_nmI h (fun x9 h => ?_)
      refine j_istore C dX0_drawn_128 (by decide) rfl ?_
      refine j_iincN C h dX0_drawn_130 rfl rfl (by decide) rfl (fun x10 h => ?_)
      refine j_goto C dX0_drawn_133 (tgt := 74) (by decide) ?_
      exact j_sub (ih _ _ _ _ h) ⟨rfl, ⟨rfl, ⟨rfl, ⟨rfl, ⟨rfl, ⟨rfl, ⟨rfl, ⟨rfl, ⟨rfl, trivial⟩⟩⟩⟩⟩⟩⟩⟩⟩
    replace h := ip c h
    refine j_iconst C (v := 1) dX0_drawn_119 rfl ?_
    refine j_goto C dX0_drawn_120 (tgt := 124) (by decide) ?_
    obtain ⟨v12, T13, e11, h⟩ := ob2 h
    refine jx_Vi hκ C (mt_x_roundFrom hκ N G e11) hG_x_roundFrom hy_x_roundFrom rfl rfl dX0_drawn_124 (jfit.of (Nat.le_of_ble_eq_true rfl) (by decide) (Nat.le_of_ble_eq_true rfl) (Nat.le_of_ble_eq_true rfl) (Nat.le_of_ble_eq_true rfl)) rfl ?_
    refine j_iadd C dX0_drawn_127 ?_
    refine j_nmI h (fun x14 h => ?_)
    refine j_istore C dX0_drawn_128 (by decide) rfl ?_
    refine j_iincN C h dX0_drawn_130 rfl rfl (by decide) rfl (fun x15 h => ?_)
    refine j_goto C dX0_drawn_133 (tgt := 74) (by decide) ?_
    exact j_sub (ih _ _ _ _ h) ⟨rfl, ⟨rfl, ⟨rfl, ⟨rfl, ⟨rfl, ⟨rfl, ⟨rfl, ⟨rfl, ⟨rfl, trivial⟩⟩⟩⟩⟩⟩⟩⟩⟩
def x_drawn_b47 (N : Nat) (l2 : Int32) (l3 : Int32) : Nat → XS → Int32 → Int32 → Int32 → Int32 → Option (Int32 × XS)
  | 0, _, _, _, _, _ => none
  | n + 1, T, l4, l5, l6, l7 =>
    (if (l2 / 10) ≤ l7 then
    (if l3 = 0 then
    some (l5, T)
    else
    some (l6, T))
    else
    (if (T.1 1) ≤ 0 then
    (if l3 = 0 then
    some (l5, T)
    else
    some (l6, T))
    else
    nm (xI T 28 (-1)) fun T1 =>
    x_drawn_b74 N l2 l3 l5 l6 l7 (fun t y4 y5 y6 y7 => x_drawn_b47 N l2 l3 n t y4 y5 y6 y7) N T1 l4 0 0))
theorem wx_drawn_b47 {κ : jK} (hκ : jX κ) (N : Nat) {Γ : jG} (C : jC κ Γ cX0_drawn 10 RX0 (some .int)) {G : Nat → Nat} (l2 : Int32) (l3 : Int32) {v : Int32} {T' : XS} : ∀ (n : Nat) (T : XS) (l4 : Int32) (l5 : Int32) (l6 : Int32) (l7 : Int32), x_drawn_b47 N l2 l3 n T l4 l5 l6 l7 = some (v, T') → J κ Γ (5, 0, 0, (fun u w' => u = some (.int v) ∧ w' = wX κ G T')) 10 (wX κ G T) 0 0 47 [some (.ref (G 0)), none, some (.int l2), some (.int l3), some (.int l4), some (.int l5), some (.int l6), some (.int l7), none, none] [] := by
  intro n
  induction n with
  | zero => intro _ _ _ _ _ h; cases h
  | succ n ih =>
    intro T l4 l5 l6 l7 h
    rw [x_drawn_b47] at h
    refine j_iload C dX0_drawn_47 rfl ?_
    refine j_iload_n C dX0_drawn_49 rfl rfl ?_
    refine j_bipush C (v := 10) dX0_drawn_50 rfl ?_
    refine j_idiv C dX0_drawn_52 (by decide) ?_
    refine j_icmp_ge C dX0_drawn_53 (tgt := 158) (by decide) (fun c => ?_) (fun c => ?_)
    · replace h := ip c h
      refine j_iload_n C dX0_drawn_158 rfl rfl ?_
      refine j_if_ne C dX0_drawn_159 (tgt := 167) (by decide) (fun c => ?_) (fun c => ?_)
      · replace h := im c h
        refine j_iload C dX0_drawn_167 rfl ?_
        obtain ⟨rfl, rfl⟩ := sp2 h
        exact j_iret C dX0_drawn_169 (Nat.le_of_ble_eq_true rfl) (Nat.le_of_ble_eq_true rfl) ⟨rfl, rfl⟩
      replace h := ip c h
      refine j_iload C dX0_drawn_162 rfl ?_
      refine j_goto C dX0_drawn_164 (tgt := 169) (by decide) ?_
      obtain ⟨rfl, rfl⟩ := sp2 h
      exact j_iret C dX0_drawn_169 (Nat.le_of_ble_eq_true rfl) (Nat.le_of_ble_eq_true rfl) ⟨rfl, rfl⟩
    replace h := im c h
    refine j_aload_n C dX0_drawn_56 rfl rfl ?_
    refine jx_geti hκ C 1 (by decide) rfl q188 dX0_drawn_57 ?_
    refine j_if_le C dX0_drawn_60 (tgt := 158) (by decide) (fun c => ?_) (fun c => ?_)
    · replace h := ip c h
      refine j_iload_n C dX0_drawn_158 rfl rfl ?_
      refine j_if_ne C dX0_drawn_159 (tgt := 167) (by decide) (fun c => ?_) (fun c => ?_)
      · replace h := im c h
        refine j_iload C dX0_drawn_167 rfl ?_
        obtain ⟨rfl, rfl⟩ := sp2 h
        exact j_iret C dX0_drawn_169 (Nat.le_of_ble_eq_true rfl) (Nat.le_of_ble_eq_true rfl) ⟨rfl, rfl⟩
      replace h := ip c h
      refine j_iload C dX0_drawn_162 rfl ?_
      refine j_goto C dX0_drawn_164 (tgt := 169) (by decide) ?_
      obtain ⟨rfl, rfl⟩ := sp2 h
      exact j_iret C dX0_drawn_169 (Nat.le_of_ble_eq_true rfl) (Nat.le_of_ble_eq_true rfl) ⟨rfl, rfl⟩
    replace h := im c h
    refine j_aload_n C dX0_drawn_63 rfl rfl ?_
    refine j_iconst C (v := (-1)) dX0_drawn_64 rfl ?_
    refine jx_puti hκ C 28 (by decide) rfl rfl rfl q217 dX0_drawn_65 ?_
    refine jx_nmT h (fun T1 h => ?_)
    refine j_iconst C (v := 0) dX0_drawn_68 rfl ?_
    refine j_istore C dX0_drawn_69 (by decide) rfl ?_
    refine j_iconst C (v := 0) dX0_drawn_71 rfl ?_
    refine j_istore C dX0_drawn_72 (by decide) rfl ?_
    exact j_sub (wx_drawn_b74 hκ N C _ _ _ _ _ _ (fun _ _ _ _ _ h => ih _ _ _ _ _ h) N _ _ _ _ h) ⟨rfl, ⟨rfl, ⟨rfl, ⟨rfl, ⟨rfl, ⟨rfl, ⟨rfl, ⟨rfl, ⟨rfl, trivial⟩⟩⟩⟩⟩⟩⟩⟩⟩
def x_drawn (N : Nat) (T : XS) (p1 : Int32) (p2 : Int32) (p3 : Int32) : Option (Int32 × XS) :=
  (if p2 < 0 then
  some ((-1), T)
  else
  (x_in (p2 / 10) 1 30).bind fun v2 =>
  (if (b2i v2) = 0 then
  some ((-1), T)
  else
  (if (jrem p2 10) = 0 then
  some ((-1), T)
  else
  (x_in p3 0 1).bind fun v4 =>
  (if (b2i v4) = 0 then
  some ((-1), T)
  else
  x_drawn_b47 N p2 p3 N T p1 0 0 0))))
theorem mt_x_drawn {κ : jK} (hκ : jX κ) (N : Nat) (G : Nat → Nat) {T : XS} {p1 : Int32} {p2 : Int32} {p3 : Int32} {v : Int32} {T' : XS} (h : x_drawn N T p1 p2 p3 = some (v, T')) : jM κ yX0_drawn (ws_ yX0_drawn cX0_drawn 10 (some .int)) 5 0 0 [.ref (G 0), .int p1, .int p2, .int p3] (wX κ G T) (fun u w' => u = some (.int v) ∧ w' = wX κ G T') := by
  rw [x_drawn] at h
  refine jM.of (by decide) rfl (Nat.le_of_ble_eq_true rfl) fun Γ C _ => ?_
  show J κ Γ (5, 0, 0, (fun u w' => u = some (.int v) ∧ w' = wX κ G T')) 10 (wX κ G T) 0 0 0 [some (.ref (G 0)), some (.int p1), some (.int p2), some (.int p3), none, none, none, none, none, none] []
  refine j_iload_n C dX0_drawn_0 rfl rfl ?_
  refine j_if_lt C dX0_drawn_1 (tgt := 33) (by decide) (fun c => ?_) (fun c => ?_)
  · replace h := ip c h
    refine j_iconst C (v := (-1)) dX0_drawn_33 rfl ?_
    obtain ⟨rfl, rfl⟩ := sp2 h
    exact j_iret C dX0_drawn_34 (Nat.le_of_ble_eq_true rfl) (Nat.le_of_ble_eq_true rfl) ⟨rfl, rfl⟩
  replace h := im c h
  refine j_iload_n C dX0_drawn_4 rfl rfl ?_
  refine j_bipush C (v := 10) dX0_drawn_5 rfl ?_
  refine j_idiv C dX0_drawn_7 (by decide) ?_
  refine j_iconst C (v := 1) dX0_drawn_8 rfl ?_
  refine j_bipush C (v := 30) dX0_drawn_9 rfl ?_
  obtain ⟨v2, e1, h⟩ := ob h
  refine j_Si hκ.1.1 C (mt_x_in hκ e1) hG_x_in hy_x_in rfl dX0_drawn_11 (jfit.of (Nat.le_of_ble_eq_true rfl) (by decide) (Nat.le_of_ble_eq_true rfl) (Nat.le_of_ble_eq_true rfl) (Nat.le_of_ble_eq_true rfl)) rfl ?_
  refine j_if_eq C dX0_drawn_14 (tgt := 33) (by decide) (fun c => ?_) (fun c => ?_)
  · replace h := ip c h
    refine j_iconst C (v := (-1)) dX0_drawn_33 rfl ?_
    obtain ⟨rfl, rfl⟩ := sp2 h
    exact j_iret C dX0_drawn_34 (Nat.le_of_ble_eq_true rfl) (Nat.le_of_ble_eq_true rfl) ⟨rfl, rfl⟩
  replace h := im c h
  refine j_iload_n C dX0_drawn_17 rfl rfl ?_
  refine j_bipush C (v := 10) dX0_drawn_18 rfl ?_
  refine j_irem C dX0_drawn_20 (by decide) ?_
  refine j_if_eq C dX0_drawn_21 (tgt := 33) (by decide) (fun c => ?_) (fun c => ?_)
  · replace h := ip c h
    refine j_iconst C (v := (-1)) dX0_drawn_33 rfl ?_
    obtain ⟨rfl, rfl⟩ := sp2 h
    exact j_iret C dX0_drawn_34 (Nat.le_of_ble_eq_true rfl) (Nat.le_of_ble_eq_true rfl) ⟨rfl, rfl⟩
  replace h := im c h
  refine j_iload_n C dX0_drawn_24 rfl rfl ?_
  refine j_iconst C (v := 0) dX0_drawn_25 rfl ?_
  refine j_iconst C (v := 1) dX0_drawn_26 rfl ?_
  obtain ⟨v4, e3, h⟩ := ob h
  refine j_Si hκ.1.1 C (mt_x_in hκ e3) hG_x_in hy_x_in rfl dX0_drawn_27 (jfit.of (Nat.le_of_ble_eq_true rfl) (by decide) (Nat.le_of_ble_eq_true rfl) (Nat.le_of_ble_eq_true rfl) (Nat.le_of_ble_eq_true rfl)) rfl ?_
  refine j_if_ne C dX0_drawn_30 (tgt := 35) (by decide) (fun c => ?_) (fun c => ?_)
  · replace h := im c h
    refine j_iload_n C dX0_drawn_35 rfl rfl ?_
    refine j_istore C dX0_drawn_36 (by decide) rfl ?_
    refine j_iconst C (v := 0) dX0_drawn_38 rfl ?_
    refine j_istore C dX0_drawn_39 (by decide) rfl ?_
    refine j_iconst C (v := 0) dX0_drawn_41 rfl ?_
    refine j_istore C dX0_drawn_42 (by decide) rfl ?_
    refine j_iconst C (v := 0) dX0_drawn_44 rfl ?_
    refine j_istore C dX0_drawn_45 (by decide) rfl ?_
    exact j_sub (wx_drawn_b47 hκ N C _ _ N _ _ _ _ _ h) ⟨rfl, ⟨rfl, ⟨rfl, ⟨rfl, ⟨rfl, ⟨rfl, ⟨rfl, trivial⟩⟩⟩⟩⟩⟩⟩
  replace h := ip c h
  refine j_iconst C (v := (-1)) dX0_drawn_33 rfl ?_
  obtain ⟨rfl, rfl⟩ := sp2 h
  exact j_iret C dX0_drawn_34 (Nat.le_of_ble_eq_true rfl) (Nat.le_of_ble_eq_true rfl) ⟨rfl, rfl⟩
/-! walk -/
def x_walk_b34 (l1 : Int32) (T : XS) (s1 : Int32) : Option (Int32 × XS) :=
  (if (((T.1 30) + s1) + (T.1 5)) ≤ 9999 then
  nm (xI T 30 ((T.1 30) + (s1 + (T.1 5)))) fun T1 =>
  nm (xI T1 29 l1) fun T2 =>
  chk 9 l1 (
  (T2.2.2.1 0 l1.toNatClampNeg).bind fun a4 =>
  (getO T2 a4 3).bind fun q6 =>
  (getO T2 a4 3).bind fun q8 =>
  nm (xO T2 a4 (oI q8 4 ((q6.2.1 4) + 1))) fun T10 =>
  nm (xI T10 31 ((T10.1 31) + s1)) fun T11 =>
  nm (xI T11 32 ((T11.1 32) + 1)) fun T12 =>
  nm (xI T12 33 ((T12.1 33) + (T12.1 5))) fun T13 =>
  some (T13.1 30, T13))
  else
  some ((-5), T))
theorem wx_walk_b34 {κ : jK} (hκ : jX κ) {Γ : jG} (C : jC κ Γ cX0_walk 3 RX0 (some .int)) {G : Nat → Nat} (l1 : Int32) {v : Int32} {T' : XS} : ∀ (T : XS) (s1 : Int32), x_walk_b34 l1 T s1 = some (v, T') → J κ Γ (4, 0, 0, (fun u w' => u = some (.int v) ∧ w' = wX κ G T')) 3 (wX κ G T) 0 0 34 [some (.ref (G 0)), some (.int l1), none] [.int s1] := by
  intro T s1 h
  rw [x_walk_b34] at h
  refine j_istore_n C dX0_walk_34 rfl (by decide) rfl ?_
  refine j_aload_n C dX0_walk_35 rfl rfl ?_
  refine jx_geti hκ C 30 (by decide) rfl q219 dX0_walk_36 ?_
  refine j_iload_n C dX0_walk_39 rfl rfl ?_
  refine j_iadd C dX0_walk_40 ?_
  refine j_aload_n C dX0_walk_41 rfl rfl ?_
  refine jx_geti hκ C 5 (by decide) rfl q192 dX0_walk_42 ?_
  refine j_iadd C dX0_walk_45 ?_
  refine j_sipush C (v := 9999) dX0_walk_46 rfl ?_
  refine j_icmp_le C dX0_walk_49 (tgt := 55) (by decide) (fun c => ?_) (fun c => ?_)
  · replace h := ip c h
    refine j_aload_n C dX0_walk_55 rfl rfl ?_
    refine j_dup C dX0_walk_56 rfl ?_
    refine jx_geti hκ C 30 (by decide) rfl q219 dX0_walk_57 ?_
    refine j_iload_n C dX0_walk_60 rfl rfl ?_
    refine j_aload_n C dX0_walk_61 rfl rfl ?_
    refine jx_geti hκ C 5 (by decide) rfl q192 dX0_walk_62 ?_
    refine j_iadd C dX0_walk_65 ?_
    refine j_iadd C dX0_walk_66 ?_
    refine jx_puti hκ C 30 (by decide) rfl rfl rfl q219 dX0_walk_67 ?_
    refine jx_nmT h (fun T1 h => ?_)
    refine j_aload_n C dX0_walk_70 rfl rfl ?_
    refine j_iload_n C dX0_walk_71 rfl rfl ?_
    refine jx_puti hκ C 29 (by decide) rfl rfl rfl q218 dX0_walk_72 ?_
    refine jx_nmT h (fun T2 h => ?_)
    refine j_aload_n C dX0_walk_75 rfl rfl ?_
    refine jx_geta hκ C 0 (by decide) rfl rfl q187 dX0_walk_76 ?_
    refine j_iload_n C dX0_walk_79 rfl rfl ?_
    obtain ⟨b3, h⟩ := chk_some h
    obtain ⟨a4, w5, h⟩ := ob h
    refine jx_aaldP hκ C 0 rfl rfl b3 w5 dX0_walk_80 ?_
    refine j_dup C dX0_walk_81 rfl ?_
    obtain ⟨q6, g7, h⟩ := ob h
    refine jx_gi3N hκ C g7 4 (by decide) rfl q365 dX0_walk_82 ?_
    refine j_iconst C (v := 1) dX0_walk_85 rfl ?_
    refine j_iadd C dX0_walk_86 ?_
    obtain ⟨q8, g9, h⟩ := ob h
    refine jx_pi3N hκ C g9 4 (by decide) rfl rfl rfl q365 dX0_walk_87 ?_
    refine jx_nmT h (fun T10 h => ?_)
    refine j_aload_n C dX0_walk_90 rfl rfl ?_
    refine j_dup C dX0_walk_91 rfl ?_
    refine jx_geti hκ C 31 (by decide) rfl q220 dX0_walk_92 ?_
    refine j_iload_n C dX0_walk_95 rfl rfl ?_
    refine j_iadd C dX0_walk_96 ?_
    refine jx_puti hκ C 31 (by decide) rfl rfl rfl q220 dX0_walk_97 ?_
    refine jx_nmT h (fun T11 h => ?_)
    refine j_aload_n C dX0_walk_100 rfl rfl ?_
    refine j_dup C dX0_walk_101 rfl ?_
    refine jx_geti hκ C 32 (by decide) rfl q221 dX0_walk_102 ?_
    refine j_iconst C (v := 1) dX0_walk_105 rfl ?_
    refine j_iadd C dX0_walk_106 ?_
    refine jx_puti hκ C 32 (by decide) rfl rfl rfl q221 dX0_walk_107 ?_
    refine jx_nmT h (fun T12 h => ?_)
    refine j_aload_n C dX0_walk_110 rfl rfl ?_
    refine j_dup C dX0_walk_111 rfl ?_
    refine jx_geti hκ C 33 (by decide) rfl q222 dX0_walk_112 ?_
    refine j_aload_n C dX0_walk_115 rfl rfl ?_
    refine jx_geti hκ C 5 (by decide) rfl q192 dX0_walk_116 ?_
    refine j_iadd C dX0_walk_119 ?_
    refine jx_puti hκ C 33 (by decide) rfl rfl rfl q222 dX0_walk_120 ?_
    refine jx_nmT h (fun T13 h => ?_)
    refine j_aload_n C dX0_walk_123 rfl rfl ?_
    refine jx_geti hκ C 30 (by decide) rfl q219 dX0_walk_124 ?_
    obtain ⟨rfl, rfl⟩ := sp2 h
    exact j_iret C dX0_walk_127 (Nat.le_of_ble_eq_true rfl) (Nat.le_of_ble_eq_true rfl) ⟨rfl, rfl⟩
  replace h := im c h
  refine j_bipush C (v := (-5)) dX0_walk_52 rfl ?_
  obtain ⟨rfl, rfl⟩ := sp2 h
  exact j_iret C dX0_walk_54 (Nat.le_of_ble_eq_true rfl) (Nat.le_of_ble_eq_true rfl) ⟨rfl, rfl⟩
def x_walk (T : XS) (p1 : Int32) : Option (Int32 × XS) :=
  (x_isPost T p1).bind fun v2 =>
  (if (b2i v2) = 0 then
  some ((-1), T)
  else
  (if 0 ≤ (T.1 29) then
  (x_between T (T.1 29) p1).bind fun v4 =>
  x_walk_b34 p1 T v4
  else
  (x_fromGate T p1).bind fun v6 =>
  x_walk_b34 p1 T v6))
theorem mt_x_walk {κ : jK} (hκ : jX κ) (G : Nat → Nat) {T : XS} {p1 : Int32} {v : Int32} {T' : XS} (h : x_walk T p1 = some (v, T')) : jM κ yX0_walk (ws_ yX0_walk cX0_walk 3 (some .int)) 4 0 0 [.ref (G 0), .int p1] (wX κ G T) (fun u w' => u = some (.int v) ∧ w' = wX κ G T') := by
  rw [x_walk] at h
  refine jM.of (by decide) rfl (Nat.le_of_ble_eq_true rfl) fun Γ C _ => ?_
  show J κ Γ (4, 0, 0, (fun u w' => u = some (.int v) ∧ w' = wX κ G T')) 3 (wX κ G T) 0 0 0 [some (.ref (G 0)), some (.int p1), none] []
  refine j_aload_n C dX0_walk_0 rfl rfl ?_
  refine j_iload_n C dX0_walk_1 rfl rfl ?_
  obtain ⟨v2, e1, h⟩ := ob h
  refine jx_Vi hκ C (mt_x_isPost hκ G e1) hG_x_isPost hy_x_isPost rfl rfl dX0_walk_2 (jfit.of (Nat.le_of_ble_eq_true rfl) (by decide) (Nat.le_of_ble_eq_true rfl) (Nat.le_of_ble_eq_true rfl) (Nat.le_of_ble_eq_true rfl)) rfl ?_
  refine j_if_ne C dX0_walk_5 (tgt := 10) (by decide) (fun c => ?_) (fun c => ?_)
  · replace h := im c h
    refine j_aload_n C dX0_walk_10 rfl rfl ?_
    refine jx_geti hκ C 29 (by decide) rfl q218 dX0_walk_11 ?_
    refine j_if_ge C dX0_walk_14 (tgt := 25) (by decide) (fun c => ?_) (fun c => ?_)
    · replace h := ip c h
      refine j_aload_n C dX0_walk_25 rfl rfl ?_
      refine j_aload_n C dX0_walk_26 rfl rfl ?_
      refine jx_geti hκ C 29 (by decide) rfl q218 dX0_walk_27 ?_
      refine j_iload_n C dX0_walk_30 rfl rfl ?_
      obtain ⟨v4, e3, h⟩ := ob h
      refine jx_Vi hκ C (mt_x_between hκ G e3) hG_x_between hy_x_between rfl rfl dX0_walk_31 (jfit.of (Nat.le_of_ble_eq_true rfl) (by decide) (Nat.le_of_ble_eq_true rfl) (Nat.le_of_ble_eq_true rfl) (Nat.le_of_ble_eq_true rfl)) rfl ?_
      exact j_sub (wx_walk_b34 hκ C _ _ _ h) ⟨rfl, ⟨rfl, trivial⟩⟩
    replace h := im c h
    refine j_aload_n C dX0_walk_17 rfl rfl ?_
    refine j_iload_n C dX0_walk_18 rfl rfl ?_
    obtain ⟨v6, e5, h⟩ := ob h
    refine jx_Vi hκ C (mt_x_fromGate hκ G e5) hG_x_fromGate hy_x_fromGate rfl rfl dX0_walk_19 (jfit.of (Nat.le_of_ble_eq_true rfl) (by decide) (Nat.le_of_ble_eq_true rfl) (Nat.le_of_ble_eq_true rfl) (Nat.le_of_ble_eq_true rfl)) rfl ?_
    refine j_goto C dX0_walk_22 (tgt := 34) (by decide) ?_
    exact j_sub (wx_walk_b34 hκ C _ _ _ h) ⟨rfl, ⟨rfl, trivial⟩⟩
  replace h := ip c h
  refine j_iconst C (v := (-1)) dX0_walk_8 rfl ?_
  obtain ⟨rfl, rfl⟩ := sp2 h
  exact j_iret C dX0_walk_9 (Nat.le_of_ble_eq_true rfl) (Nat.le_of_ble_eq_true rfl) ⟨rfl, rfl⟩
/-! waits -/
def x_waits (T : XS) (p1 : Int32) : Option (Int32 × XS) :=
  (x_in p1 1 999).bind fun v2 =>
  (if (b2i v2) = 0 then
  some ((-1), T)
  else
  (if ((T.1 30) + p1) ≤ 9999 then
  nm (xI T 30 ((T.1 30) + p1)) fun T3 =>
  nm (xI T3 34 ((T3.1 34) + p1)) fun T4 =>
  some (T4.1 30, T4)
  else
  some ((-5), T)))
theorem mt_x_waits {κ : jK} (hκ : jX κ) (G : Nat → Nat) {T : XS} {p1 : Int32} {v : Int32} {T' : XS} (h : x_waits T p1 = some (v, T')) : jM κ yX0_waits (ws_ yX0_waits cX0_waits 2 (some .int)) 1 0 0 [.ref (G 0), .int p1] (wX κ G T) (fun u w' => u = some (.int v) ∧ w' = wX κ G T') := by
  rw [x_waits] at h
  refine jM.of (by decide) rfl (Nat.le_of_ble_eq_true rfl) fun Γ C _ => ?_
  show J κ Γ (1, 0, 0, (fun u w' => u = some (.int v) ∧ w' = wX κ G T')) 2 (wX κ G T) 0 0 0 [some (.ref (G 0)), some (.int p1)] []
  refine j_iload_n C dX0_waits_0 rfl rfl ?_
  refine j_iconst C (v := 1) dX0_waits_1 rfl ?_
  refine j_sipush C (v := 999) dX0_waits_2 rfl ?_
  obtain ⟨v2, e1, h⟩ := ob h
  refine j_Si hκ.1.1 C (mt_x_in hκ e1) hG_x_in hy_x_in rfl dX0_waits_5 (jfit.of (Nat.le_of_ble_eq_true rfl) (by decide) (Nat.le_of_ble_eq_true rfl) (Nat.le_of_ble_eq_true rfl) (Nat.le_of_ble_eq_true rfl)) rfl ?_
  refine j_if_ne C dX0_waits_8 (tgt := 13) (by decide) (fun c => ?_) (fun c => ?_)
  · replace h := im c h
    refine j_aload_n C dX0_waits_13 rfl rfl ?_
    refine jx_geti hκ C 30 (by decide) rfl q219 dX0_waits_14 ?_
    refine j_iload_n C dX0_waits_17 rfl rfl ?_
    refine j_iadd C dX0_waits_18 ?_
    refine j_sipush C (v := 9999) dX0_waits_19 rfl ?_
    refine j_icmp_le C dX0_waits_22 (tgt := 28) (by decide) (fun c => ?_) (fun c => ?_)
    · replace h := ip c h
      refine j_aload_n C dX0_waits_28 rfl rfl ?_
      refine j_dup C dX0_waits_29 rfl ?_
      refine jx_geti hκ C 30 (by decide) rfl q219 dX0_waits_30 ?_
      refine j_iload_n C dX0_waits_33 rfl rfl ?_
      refine j_iadd C dX0_waits_34 ?_
      refine jx_puti hκ C 30 (by decide) rfl rfl rfl q219 dX0_waits_35 ?_
      refine jx_nmT h (fun T3 h => ?_)
      refine j_aload_n C dX0_waits_38 rfl rfl ?_
      refine j_dup C dX0_waits_39 rfl ?_
      refine jx_geti hκ C 34 (by decide) rfl q223 dX0_waits_40 ?_
      refine j_iload_n C dX0_waits_43 rfl rfl ?_
      refine j_iadd C dX0_waits_44 ?_
      refine jx_puti hκ C 34 (by decide) rfl rfl rfl q223 dX0_waits_45 ?_
      refine jx_nmT h (fun T4 h => ?_)
      refine j_aload_n C dX0_waits_48 rfl rfl ?_
      refine jx_geti hκ C 30 (by decide) rfl q219 dX0_waits_49 ?_
      obtain ⟨rfl, rfl⟩ := sp2 h
      exact j_iret C dX0_waits_52 (Nat.le_of_ble_eq_true rfl) (Nat.le_of_ble_eq_true rfl) ⟨rfl, rfl⟩
    replace h := im c h
    refine j_bipush C (v := (-5)) dX0_waits_25 rfl ?_
    obtain ⟨rfl, rfl⟩ := sp2 h
    exact j_iret C dX0_waits_27 (Nat.le_of_ble_eq_true rfl) (Nat.le_of_ble_eq_true rfl) ⟨rfl, rfl⟩
  replace h := ip c h
  refine j_iconst C (v := (-1)) dX0_waits_11 rfl ?_
  obtain ⟨rfl, rfl⟩ := sp2 h
  exact j_iret C dX0_waits_12 (Nat.le_of_ble_eq_true rfl) (Nat.le_of_ble_eq_true rfl) ⟨rfl, rfl⟩
/-! home -/
def x_home_b19 (T : XS) (s1 : Int32) : Option (Int32 × XS) :=
  (if ((T.1 30) + s1) ≤ 9999 then
  nm (xI T 30 ((T.1 30) + s1)) fun T1 =>
  nm (xI T1 31 ((T1.1 31) + s1)) fun T2 =>
  nm (xI T2 29 (-1)) fun T3 =>
  some (T3.1 30, T3)
  else
  some ((-5), T))
theorem wx_home_b19 {κ : jK} (hκ : jX κ) {Γ : jG} (C : jC κ Γ cX0_home 2 RX0 (some .int)) {G : Nat → Nat}  {v : Int32} {T' : XS} : ∀ (T : XS) (s1 : Int32), x_home_b19 T s1 = some (v, T') → J κ Γ (3, 0, 0, (fun u w' => u = some (.int v) ∧ w' = wX κ G T')) 2 (wX κ G T) 0 0 19 [some (.ref (G 0)), none] [.int s1] := by
  intro T s1 h
  rw [x_home_b19] at h
  refine j_istore_n C dX0_home_19 rfl (by decide) rfl ?_
  refine j_aload_n C dX0_home_20 rfl rfl ?_
  refine jx_geti hκ C 30 (by decide) rfl q219 dX0_home_21 ?_
  refine j_iload_n C dX0_home_24 rfl rfl ?_
  refine j_iadd C dX0_home_25 ?_
  refine j_sipush C (v := 9999) dX0_home_26 rfl ?_
  refine j_icmp_le C dX0_home_29 (tgt := 35) (by decide) (fun c => ?_) (fun c => ?_)
  · replace h := ip c h
    refine j_aload_n C dX0_home_35 rfl rfl ?_
    refine j_dup C dX0_home_36 rfl ?_
    refine jx_geti hκ C 30 (by decide) rfl q219 dX0_home_37 ?_
    refine j_iload_n C dX0_home_40 rfl rfl ?_
    refine j_iadd C dX0_home_41 ?_
    refine jx_puti hκ C 30 (by decide) rfl rfl rfl q219 dX0_home_42 ?_
    refine jx_nmT h (fun T1 h => ?_)
    refine j_aload_n C dX0_home_45 rfl rfl ?_
    refine j_dup C dX0_home_46 rfl ?_
    refine jx_geti hκ C 31 (by decide) rfl q220 dX0_home_47 ?_
    refine j_iload_n C dX0_home_50 rfl rfl ?_
    refine j_iadd C dX0_home_51 ?_
    refine jx_puti hκ C 31 (by decide) rfl rfl rfl q220 dX0_home_52 ?_
    refine jx_nmT h (fun T2 h => ?_)
    refine j_aload_n C dX0_home_55 rfl rfl ?_
    refine j_iconst C (v := (-1)) dX0_home_56 rfl ?_
    refine jx_puti hκ C 29 (by decide) rfl rfl rfl q218 dX0_home_57 ?_
    refine jx_nmT h (fun T3 h => ?_)
    refine j_aload_n C dX0_home_60 rfl rfl ?_
    refine jx_geti hκ C 30 (by decide) rfl q219 dX0_home_61 ?_
    obtain ⟨rfl, rfl⟩ := sp2 h
    exact j_iret C dX0_home_64 (Nat.le_of_ble_eq_true rfl) (Nat.le_of_ble_eq_true rfl) ⟨rfl, rfl⟩
  replace h := im c h
  refine j_bipush C (v := (-5)) dX0_home_32 rfl ?_
  obtain ⟨rfl, rfl⟩ := sp2 h
  exact j_iret C dX0_home_34 (Nat.le_of_ble_eq_true rfl) (Nat.le_of_ble_eq_true rfl) ⟨rfl, rfl⟩
def x_home (T : XS) : Option (Int32 × XS) :=
  (if 0 ≤ (T.1 29) then
  (x_fromGate T (T.1 29)).bind fun v2 =>
  x_home_b19 T v2
  else
  x_home_b19 T 0)
theorem mt_x_home {κ : jK} (hκ : jX κ) (G : Nat → Nat) {T : XS} {v : Int32} {T' : XS} (h : x_home T = some (v, T')) : jM κ yX0_home (ws_ yX0_home cX0_home 2 (some .int)) 3 0 0 [.ref (G 0)] (wX κ G T) (fun u w' => u = some (.int v) ∧ w' = wX κ G T') := by
  rw [x_home] at h
  refine jM.of (by decide) rfl (Nat.le_of_ble_eq_true rfl) fun Γ C _ => ?_
  show J κ Γ (3, 0, 0, (fun u w' => u = some (.int v) ∧ w' = wX κ G T')) 2 (wX κ G T) 0 0 0 [some (.ref (G 0)), none] []
  refine j_aload_n C dX0_home_0 rfl rfl ?_
  refine jx_geti hκ C 29 (by decide) rfl q218 dX0_home_1 ?_
  refine j_if_ge C dX0_home_4 (tgt := 11) (by decide) (fun c => ?_) (fun c => ?_)
  · replace h := ip c h
    refine j_aload_n C dX0_home_11 rfl rfl ?_
    refine j_aload_n C dX0_home_12 rfl rfl ?_
    refine jx_geti hκ C 29 (by decide) rfl q218 dX0_home_13 ?_
    obtain ⟨v2, e1, h⟩ := ob h
    refine jx_Vi hκ C (mt_x_fromGate hκ G e1) hG_x_fromGate hy_x_fromGate rfl rfl dX0_home_16 (jfit.of (Nat.le_of_ble_eq_true rfl) (by decide) (Nat.le_of_ble_eq_true rfl) (Nat.le_of_ble_eq_true rfl) (Nat.le_of_ble_eq_true rfl)) rfl ?_
    exact j_sub (wx_home_b19 hκ C _ _ h) ⟨rfl, trivial⟩
  replace h := im c h
  refine j_iconst C (v := 0) dX0_home_7 rfl ?_
  refine j_goto C dX0_home_8 (tgt := 19) (by decide) ?_
  exact j_sub (wx_home_b19 hκ C _ _ h) ⟨rfl, trivial⟩
/-! led -/
def x_led (T : XS) (p1 : Int32) : Option Int32 :=
  (if p1 = 0 then
  some (T.1 31)
  else if p1 = 1 then
  some (T.1 32)
  else if p1 = 2 then
  some (T.1 33)
  else if p1 = 3 then
  some (T.1 34)
  else if p1 = 4 then
  some (T.1 30)
  else 
  some (-1))
theorem mt_x_led {κ : jK} (hκ : jX κ) (G : Nat → Nat) {T : XS} {p1 : Int32} {v : Int32} (h : x_led T p1 = some v) : jM κ yX0_led (ws_ yX0_led cX0_led 2 (some .int)) 0 0 0 [.ref (G 0), .int p1] (wX κ G T) (fun u w' => u = some (.int v) ∧ w' = wX κ G T) := by
  rw [x_led] at h
  refine jM.of (by decide) rfl (Nat.le_of_ble_eq_true rfl) fun Γ C _ => ?_
  show J κ Γ (0, 0, 0, (fun u w' => u = some (.int v) ∧ w' = wX κ G T)) 2 (wX κ G T) 0 0 0 [some (.ref (G 0)), some (.int p1)] []
  refine j_iload_n C dX0_led_0 rfl rfl ?_
  by_cases c1_0 : p1 = 0
  · replace h := ip c1_0 h
    refine j_tabEq C dX0_led_1 c1_0 (a := 0) rfl (by decide) (by decide) rfl (tgt := 36) (by decide) ?_
    refine j_aload_n C dX0_led_36 rfl rfl ?_
    refine jx_geti hκ C 31 (by decide) rfl q220 dX0_led_37 ?_
    obtain rfl := sp1 h
    exact j_iret C dX0_led_40 (Nat.le_of_ble_eq_true rfl) (Nat.le_of_ble_eq_true rfl) ⟨rfl, rfl⟩
  replace h := im c1_0 h
  by_cases c1_1 : p1 = 1
  · replace h := ip c1_1 h
    refine j_tabEq C dX0_led_1 c1_1 (a := 1) rfl (by decide) (by decide) rfl (tgt := 41) (by decide) ?_
    refine j_aload_n C dX0_led_41 rfl rfl ?_
    refine jx_geti hκ C 32 (by decide) rfl q221 dX0_led_42 ?_
    obtain rfl := sp1 h
    exact j_iret C dX0_led_45 (Nat.le_of_ble_eq_true rfl) (Nat.le_of_ble_eq_true rfl) ⟨rfl, rfl⟩
  replace h := im c1_1 h
  by_cases c1_2 : p1 = 2
  · replace h := ip c1_2 h
    refine j_tabEq C dX0_led_1 c1_2 (a := 2) rfl (by decide) (by decide) rfl (tgt := 46) (by decide) ?_
    refine j_aload_n C dX0_led_46 rfl rfl ?_
    refine jx_geti hκ C 33 (by decide) rfl q222 dX0_led_47 ?_
    obtain rfl := sp1 h
    exact j_iret C dX0_led_50 (Nat.le_of_ble_eq_true rfl) (Nat.le_of_ble_eq_true rfl) ⟨rfl, rfl⟩
  replace h := im c1_2 h
  by_cases c1_3 : p1 = 3
  · replace h := ip c1_3 h
    refine j_tabEq C dX0_led_1 c1_3 (a := 3) rfl (by decide) (by decide) rfl (tgt := 51) (by decide) ?_
    refine j_aload_n C dX0_led_51 rfl rfl ?_
    refine jx_geti hκ C 34 (by decide) rfl q223 dX0_led_52 ?_
    obtain rfl := sp1 h
    exact j_iret C dX0_led_55 (Nat.le_of_ble_eq_true rfl) (Nat.le_of_ble_eq_true rfl) ⟨rfl, rfl⟩
  replace h := im c1_3 h
  by_cases c1_4 : p1 = 4
  · replace h := ip c1_4 h
    refine j_tabEq C dX0_led_1 c1_4 (a := 4) rfl (by decide) (by decide) rfl (tgt := 56) (by decide) ?_
    refine j_aload_n C dX0_led_56 rfl rfl ?_
    refine jx_geti hκ C 30 (by decide) rfl q219 dX0_led_57 ?_
    obtain rfl := sp1 h
    exact j_iret C dX0_led_60 (Nat.le_of_ble_eq_true rfl) (Nat.le_of_ble_eq_true rfl) ⟨rfl, rfl⟩
  replace h := im c1_4 h
  refine j_tabDef C [0, 1, 2, 3, 4] dX0_led_1 ⟨tab_ne c1_0 rfl, tab_ne c1_1 rfl, tab_ne c1_2 rfl, tab_ne c1_3 rfl, tab_ne c1_4 rfl, trivial⟩ rfl rfl (tgt := 61) (by decide) ?_
  refine j_iconst C (v := (-1)) dX0_led_61 rfl ?_
  obtain rfl := sp1 h
  exact j_iret C dX0_led_62 (Nat.le_of_ble_eq_true rfl) (Nat.le_of_ble_eq_true rfl) ⟨rfl, rfl⟩
