set_option maxRecDepth 100000
/-! late -/
def m_late_b68 (N : Nat) (l3 : Int32) (l4 : Int32) (k32 : MS → Int32 → Int32 → Option (Int32 × MS)) (T : MS) : Option (Int32 × MS) :=
  nm (l3 ||| (1 <<< (l4 &&& 31))) fun x1 =>
  nm (l4 + 1) fun x2 =>
  k32 T x1 x2
theorem wm_late_b68 {κ : jK} (hκ : jStd κ) (N : Nat) {Γ : jG} (C : jC κ Γ cX2_late 5 RX2 (some .int)) {G : Nat → Nat} (l3 : Int32) (l4 : Int32) (k32 : MS → Int32 → Int32 → Option (Int32 × MS)) {v : Int32} {T' : MS} (hk32 : ∀ (T : MS) (l3 : Int32) (l4 : Int32), k32 T l3 l4 = some (v, T') → J κ Γ (5, 0, 0, (fun u w' => u = some (.int v) ∧ w' = wM κ G T')) 5 (wM κ G T) 0 0 32 [some (.ref (G 0)), none, none, some (.int l3), some (.int l4)] []) : ∀ (T : MS), m_late_b68 N l3 l4 k32 T = some (v, T') → J κ Γ (5, 0, 0, (fun u w' => u = some (.int v) ∧ w' = wM κ G T')) 5 (wM κ G T) 0 0 68 [some (.ref (G 0)), none, none, some (.int l3), some (.int l4)] [] := by
  intro T h
  rw [m_late_b68] at h
  refine j_iload_n C dX2_late_68 rfl rfl ?_
  refine j_iconst C (v := 1) dX2_late_69 rfl ?_
  refine j_iload C dX2_late_70 rfl ?_
  refine j_ishl C dX2_late_72 ?_
  refine j_ior C dX2_late_73 ?_
  refine j_nmI h (fun x1 h => ?_)
  refine j_istore_n C dX2_late_74 rfl (by decide) rfl ?_
  refine j_iincN C h dX2_late_75 rfl rfl (by decide) rfl (fun x2 h => ?_)
  refine j_goto C dX2_late_78 (tgt := 32) (by decide) ?_
  exact j_sub (hk32 _ _ _ h) ⟨rfl, ⟨rfl, ⟨rfl, trivial⟩⟩⟩
def m_late_b32 (N : Nat) : Nat → MS → Int32 → Int32 → Option (Int32 × MS)
  | 0, _, _, _ => none
  | n + 1, T, l3, l4 =>
    (if (T.1 0) ≤ l4 then
    some (l3, T)
    else
    (m_gapOf N T l4).bind fun v2 =>
    (if v2 = (-2) then
    m_late_b68 N l3 l4 (fun t y3 y4 => m_late_b32 N n t y3 y4) T
    else
    (m_gapOf N T l4).bind fun v4 =>
    chk 9 l4 (
    (if v4 ≤ (T.2.1 4 l4.toNatClampNeg) then
    nm (l4 + 1) fun x6 =>
    m_late_b32 N n T l3 x6
    else
    m_late_b68 N l3 l4 (fun t y3 y4 => m_late_b32 N n t y3 y4) T))))
theorem wm_late_b32 {κ : jK} (hκ : jStd κ) (N : Nat) {Γ : jG} (C : jC κ Γ cX2_late 5 RX2 (some .int)) {G : Nat → Nat}  {v : Int32} {T' : MS} : ∀ (n : Nat) (T : MS) (l3 : Int32) (l4 : Int32), m_late_b32 N n T l3 l4 = some (v, T') → J κ Γ (5, 0, 0, (fun u w' => u = some (.int v) ∧ w' = wM κ G T')) 5 (wM κ G T) 0 0 32 [some (.ref (G 0)), none, none, some (.int l3), some (.int l4)] [] := by
  intro n
  induction n with
  | zero => intro _ _ _ h; cases h
  | succ n ih =>
    intro T l3 l4 h
    rw [m_late_b32] at h
    refine j_iload C dX2_late_32 rfl ?_
    refine j_aload_n C dX2_late_34 rfl rfl ?_
    refine jm_geti hκ C 0 (by decide) rfl q1637 dX2_late_35 ?_
    refine j_icmp_ge C dX2_late_38 (tgt := 81) (by decide) (fun c => ?_) (fun c => ?_)
    · replace h := ip c h
      refine j_iload_n C dX2_late_81 rfl rfl ?_
      obtain ⟨rfl, rfl⟩ := sp2 h
      exact j_iret C dX2_late_82 (Nat.zero_le _) (Nat.zero_le _) ⟨rfl, rfl⟩
    replace h := im c h
    refine j_aload_n C dX2_late_41 rfl rfl ?_
    refine j_iload C dX2_late_42 rfl ?_
    obtain ⟨v2, e1, h⟩ := ob h
    refine jm_Vi hκ C (mt_m_gapOf hκ N G e1) hG_m_gapOf hy_m_gapOf rfl rfl dX2_late_44 (jfit.of (Nat.le_of_ble_eq_true rfl) (by decide) (Nat.zero_le _) (Nat.zero_le _) (Nat.le_of_ble_eq_true rfl)) rfl ?_
    refine j_bipush C (v := (-2)) dX2_late_47 rfl ?_
    refine j_icmp_eq C dX2_late_49 (tgt := 68) (by decide) (fun c => ?_) (fun c => ?_)
    · replace h := ip c h
      exact j_sub (wm_late_b68 hκ N C _ _ _ (fun _ _ _ h => ih _ _ _ h) _ h) ⟨rfl, ⟨rfl, ⟨rfl, trivial⟩⟩⟩
    replace h := im c h
    refine j_aload_n C dX2_late_52 rfl rfl ?_
    refine j_iload C dX2_late_53 rfl ?_
    obtain ⟨v4, e3, h⟩ := ob h
    refine jm_Vi hκ C (mt_m_gapOf hκ N G e3) hG_m_gapOf hy_m_gapOf rfl rfl dX2_late_55 (jfit.of (Nat.le_of_ble_eq_true rfl) (by decide) (Nat.zero_le _) (Nat.zero_le _) (Nat.le_of_ble_eq_true rfl)) rfl ?_
    refine j_aload_n C dX2_late_58 rfl rfl ?_
    refine jm_geta hκ C 4 (by decide) rfl q1641 dX2_late_59 ?_
    refine j_iload C dX2_late_62 rfl ?_
    obtain ⟨b5, h⟩ := chk_some h
    refine jm_iald hκ C 4 rfl b5 dX2_late_64 ?_
    refine j_icmp_le C dX2_late_65 (tgt := 75) (by decide) (fun c => ?_) (fun c => ?_)
    · replace h := ip c h
      refine j_iincN C h dX2_late_75 rfl rfl (by decide) rfl (fun x6 h => ?_)
      refine j_goto C dX2_late_78 (tgt := 32) (by decide) ?_
      exact j_sub (ih _ _ _ h) ⟨rfl, ⟨rfl, ⟨rfl, trivial⟩⟩⟩
    replace h := im c h
    exact j_sub (wm_late_b68 hκ N C _ _ _ (fun _ _ _ h => ih _ _ _ h) _ h) ⟨rfl, ⟨rfl, ⟨rfl, trivial⟩⟩⟩
def m_late (N : Nat) (T : MS) (p1 : Int32) : Option (Int32 × MS) :=
  (m_isShelf p1).bind fun v2 =>
  (if (b2i v2) = 0 then
  some ((-1), T)
  else
  (m_noRow T p1 0).bind fun v4 =>
  (if 0 ≤ v4 then
  (m_reads N T p1).bind fun T7 =>
  m_late_b32 N N T7 0 0
  else
  some (v4, T)))
theorem mt_m_late {κ : jK} (hκ : jStd κ) (N : Nat) (G : Nat → Nat) {T : MS} {p1 : Int32} {v : Int32} {T' : MS} (h : m_late N T p1 = some (v, T')) : jM κ yX2_late (ws_ yX2_late cX2_late 5 (some .int)) 5 0 0 [.ref (G 0), .int p1] (wM κ G T) (fun u w' => u = some (.int v) ∧ w' = wM κ G T') := by
  rw [m_late] at h
  refine jM.of (by decide) rfl (Nat.le_of_ble_eq_true rfl) fun Γ C _ => ?_
  show J κ Γ (5, 0, 0, (fun u w' => u = some (.int v) ∧ w' = wM κ G T')) 5 (wM κ G T) 0 0 0 [some (.ref (G 0)), some (.int p1), none, none, none] []
  refine j_iload_n C dX2_late_0 rfl rfl ?_
  obtain ⟨v2, e1, h⟩ := ob h
  refine j_Si hκ.1 C (mt_m_isShelf hκ e1) hG_m_isShelf hy_m_isShelf rfl dX2_late_1 (jfit.of (Nat.le_of_ble_eq_true rfl) (by decide) (Nat.zero_le _) (Nat.zero_le _) (Nat.le_of_ble_eq_true rfl)) rfl ?_
  refine j_if_ne C dX2_late_4 (tgt := 9) (by decide) (fun c => ?_) (fun c => ?_)
  · replace h := im c h
    refine j_aload_n C dX2_late_9 rfl rfl ?_
    refine j_iload_n C dX2_late_10 rfl rfl ?_
    refine j_iconst C (v := 0) dX2_late_11 rfl ?_
    obtain ⟨v4, e3, h⟩ := ob h
    refine jm_Vi hκ C (mt_m_noRow hκ G e3) hG_m_noRow hy_m_noRow rfl rfl dX2_late_12 (jfit.of (Nat.le_of_ble_eq_true rfl) (by decide) (Nat.zero_le _) (Nat.zero_le _) (Nat.le_of_ble_eq_true rfl)) rfl ?_
    refine j_istore_n C dX2_late_15 rfl (by decide) rfl ?_
    refine j_iload_n C dX2_late_16 rfl rfl ?_
    refine j_if_ge C dX2_late_17 (tgt := 22) (by decide) (fun c => ?_) (fun c => ?_)
    · replace h := ip c h
      refine j_aload_n C dX2_late_22 rfl rfl ?_
      refine j_iload_n C dX2_late_23 rfl rfl ?_
      obtain ⟨T7, e5, h⟩ := ob h
      refine jm_Vv hκ C (mt_m_reads hκ N G e5) hG_m_reads hy_m_reads rfl rfl dX2_late_24 (jfit.of (Nat.le_of_ble_eq_true rfl) (by decide) (Nat.zero_le _) (Nat.zero_le _) (Nat.le_of_ble_eq_true rfl)) rfl ?_
      refine j_iconst C (v := 0) dX2_late_27 rfl ?_
      refine j_istore_n C dX2_late_28 rfl (by decide) rfl ?_
      refine j_iconst C (v := 0) dX2_late_29 rfl ?_
      refine j_istore C dX2_late_30 (by decide) rfl ?_
      exact j_sub (wm_late_b32 hκ N C N _ _ _ h) ⟨rfl, ⟨rfl, ⟨rfl, trivial⟩⟩⟩
    replace h := im c h
    refine j_iload_n C dX2_late_20 rfl rfl ?_
    obtain ⟨rfl, rfl⟩ := sp2 h
    exact j_iret C dX2_late_21 (Nat.zero_le _) (Nat.zero_le _) ⟨rfl, rfl⟩
  replace h := ip c h
  refine j_iconst C (v := (-1)) dX2_late_7 rfl ?_
  obtain ⟨rfl, rfl⟩ := sp2 h
  exact j_iret C dX2_late_8 (Nat.zero_le _) (Nat.zero_le _) ⟨rfl, rfl⟩
/-! isSet -/
def m_isSet (T : MS) (p1 : Int32) : Option Bool :=
  (m_within p1 0 ((1 <<< ((T.1 0) &&& 31)) - 1)).bind fun v2 =>
  some v2
theorem mt_m_isSet {κ : jK} (hκ : jStd κ) (G : Nat → Nat) {T : MS} {p1 : Int32} {v : Bool} (h : m_isSet T p1 = some v) : jM κ yX2_isSet (ws_ yX2_isSet cX2_isSet 2 (some .boolean)) 1 0 0 [.ref (G 0), .int p1] (wM κ G T) (fun u w' => u = some (.int (b2i v)) ∧ w' = wM κ G T) := by
  rw [m_isSet] at h
  refine jM.of (by decide) rfl (Nat.le_of_ble_eq_true rfl) fun Γ C _ => ?_
  show J κ Γ (1, 0, 0, (fun u w' => u = some (.int (b2i v)) ∧ w' = wM κ G T)) 2 (wM κ G T) 0 0 0 [some (.ref (G 0)), some (.int p1)] []
  refine j_iload_n C dX2_isSet_0 rfl rfl ?_
  refine j_iconst C (v := 0) dX2_isSet_1 rfl ?_
  refine j_iconst C (v := 1) dX2_isSet_2 rfl ?_
  refine j_aload_n C dX2_isSet_3 rfl rfl ?_
  refine jm_geti hκ C 0 (by decide) rfl q1637 dX2_isSet_4 ?_
  refine j_ishl C dX2_isSet_7 ?_
  refine j_iconst C (v := 1) dX2_isSet_8 rfl ?_
  refine j_isub C dX2_isSet_9 ?_
  obtain ⟨v2, e1, h⟩ := ob h
  refine j_Si hκ.1 C (mt_m_within hκ e1) hG_m_within hy_m_within rfl dX2_isSet_10 (jfit.of (Nat.le_of_ble_eq_true rfl) (by decide) (Nat.zero_le _) (Nat.zero_le _) (Nat.le_of_ble_eq_true rfl)) rfl ?_
  obtain rfl := sp1 h
  exact j_zret C (b2i_z _) dX2_isSet_13 (Nat.zero_le _) (Nat.zero_le _) ⟨rfl, rfl⟩
/-! exchange -/
def m_exchange (T : MS) (p1 : Int32) (p2 : Int32) : Option MS :=
  chk 9 p1 (
  nm (T.2.1 52 p1.toNatClampNeg) fun x2 =>
  chk 9 p2 (
  chk 9 p1 (
  nm (sA T 52 p1.toNatClampNeg (T.2.1 52 p2.toNatClampNeg)) fun T4 =>
  chk 9 p2 (
  nm (sA T4 52 p2.toNatClampNeg x2) fun T6 =>
  some T6))))
theorem mt_m_exchange {κ : jK} (hκ : jStd κ) (G : Nat → Nat) {T : MS} {p1 : Int32} {p2 : Int32} {T' : MS} (h : m_exchange T p1 p2 = some T') : jM κ yX2_exchange (ws_ yX2_exchange cX2_exchange 4 none) 0 0 0 [.ref (G 0), .int p1, .int p2] (wM κ G T) (fun u w' => u = none ∧ w' = wM κ G T') := by
  rw [m_exchange] at h
  refine jM.of (by decide) rfl (Nat.le_of_ble_eq_true rfl) fun Γ C _ => ?_
  show J κ Γ (0, 0, 0, (fun u w' => u = none ∧ w' = wM κ G T')) 4 (wM κ G T) 0 0 0 [some (.ref (G 0)), some (.int p1), some (.int p2), none] []
  refine j_aload_n C dX2_exchange_0 rfl rfl ?_
  refine jm_geta hκ C 52 (by decide) rfl q1689 dX2_exchange_1 ?_
  refine j_iload_n C dX2_exchange_4 rfl rfl ?_
  obtain ⟨b1, h⟩ := chk_some h
  refine jm_iald hκ C 52 rfl b1 dX2_exchange_5 ?_
  refine j_nmI h (fun x2 h => ?_)
  refine j_istore_n C dX2_exchange_6 rfl (by decide) rfl ?_
  refine j_aload_n C dX2_exchange_7 rfl rfl ?_
  refine jm_geta hκ C 52 (by decide) rfl q1689 dX2_exchange_8 ?_
  refine j_iload_n C dX2_exchange_11 rfl rfl ?_
  refine j_aload_n C dX2_exchange_12 rfl rfl ?_
  refine jm_geta hκ C 52 (by decide) rfl q1689 dX2_exchange_13 ?_
  refine j_iload_n C dX2_exchange_16 rfl rfl ?_
  obtain ⟨b3, h⟩ := chk_some h
  refine jm_iald hκ C 52 rfl b3 dX2_exchange_17 ?_
  obtain ⟨b5, h⟩ := chk_some h
  refine jm_iast hκ C 52 rfl b5 dX2_exchange_18 ?_
  refine jm_nmT h (fun T4 h => ?_)
  refine j_aload_n C dX2_exchange_19 rfl rfl ?_
  refine jm_geta hκ C 52 (by decide) rfl q1689 dX2_exchange_20 ?_
  refine j_iload_n C dX2_exchange_23 rfl rfl ?_
  refine j_iload_n C dX2_exchange_24 rfl rfl ?_
  obtain ⟨b7, h⟩ := chk_some h
  refine jm_iast hκ C 52 rfl b7 dX2_exchange_25 ?_
  refine jm_nmT h (fun T6 h => ?_)
  obtain rfl := sp1 h
  exact j_vret C dX2_exchange_26 (Nat.zero_le _) (Nat.zero_le _) ⟨rfl, rfl⟩
/-! nextOrder -/
def m_nextOrder_b78 (N : Nat) : Nat → MS → Int32 → Int32 → Option (Bool × MS)
  | 0, _, _, _ => none
  | n + 1, T, l4, l5 =>
    (if l5 ≤ l4 then
    some (true, T)
    else
    (m_exchange T l4 l5).bind fun T3 =>
    nm (l4 + 1) fun x4 =>
    nm (l5 + (-1)) fun x5 =>
    m_nextOrder_b78 N n T3 x4 x5)
theorem wm_nextOrder_b78 {κ : jK} (hκ : jStd κ) (N : Nat) {Γ : jG} (C : jC κ Γ cX2_nextOrder 6 RX2 (some .boolean)) {G : Nat → Nat}  {v : Bool} {T' : MS} : ∀ (n : Nat) (T : MS) (l4 : Int32) (l5 : Int32), m_nextOrder_b78 N n T l4 l5 = some (v, T') → J κ Γ (1, 0, 0, (fun u w' => u = some (.int (b2i v)) ∧ w' = wM κ G T')) 6 (wM κ G T) 0 0 78 [some (.ref (G 0)), none, none, none, some (.int l4), some (.int l5)] [] := by
  intro n
  induction n with
  | zero => intro _ _ _ h; cases h
  | succ n ih =>
    intro T l4 l5 h
    rw [m_nextOrder_b78] at h
    refine j_iload C dX2_nextOrder_78 rfl ?_
    refine j_iload C dX2_nextOrder_80 rfl ?_
    refine j_icmp_ge C dX2_nextOrder_82 (tgt := 102) (by decide) (fun c => ?_) (fun c => ?_)
    · replace h := ip c h
      refine j_iconst C (v := 1) dX2_nextOrder_102 rfl ?_
      obtain ⟨rfl, rfl⟩ := sp2 h
      exact j_zret C rfl dX2_nextOrder_103 (Nat.zero_le _) (Nat.zero_le _) ⟨rfl, rfl⟩
    replace h := im c h
    refine j_aload_n C dX2_nextOrder_85 rfl rfl ?_
    refine j_iload C dX2_nextOrder_86 rfl ?_
    refine j_iload C dX2_nextOrder_88 rfl ?_
    obtain ⟨T3, e1, h⟩ := ob h
    refine jm_Vv hκ C (mt_m_exchange hκ G e1) hG_m_exchange hy_m_exchange rfl rfl dX2_nextOrder_90 (jfit.of (Nat.le_of_ble_eq_true rfl) (by decide) (Nat.zero_le _) (Nat.zero_le _) (Nat.le_of_ble_eq_true rfl)) rfl ?_
    refine j_iincN C h dX2_nextOrder_93 rfl rfl (by decide) rfl (fun x4 h => ?_)
    refine j_iincN C h dX2_nextOrder_96 rfl rfl (by decide) rfl (fun x5 h => ?_)
    refine j_goto C dX2_nextOrder_99 (tgt := 78) (by decide) ?_
    exact j_sub (ih _ _ _ h) ⟨rfl, ⟨rfl, ⟨rfl, trivial⟩⟩⟩
def m_nextOrder_b41 (N : Nat) (l1 : Int32) (l2 : Int32) : Nat → MS → Int32 → Option (Bool × MS)
  | 0, _, _ => none
  | n + 1, T, l3 =>
    chk 9 l3 (
    chk 9 l2 (
    (if (T.2.1 52 l2.toNatClampNeg) ≤ (T.2.1 52 l3.toNatClampNeg) then
    (m_exchange T l2 l3).bind fun T5 =>
    nm (l2 + 1) fun x6 =>
    nm (l1 - 1) fun x7 =>
    m_nextOrder_b78 N N T5 x6 x7
    else
    nm (l3 + (-1)) fun x8 =>
    m_nextOrder_b41 N l1 l2 n T x8)))
theorem wm_nextOrder_b41 {κ : jK} (hκ : jStd κ) (N : Nat) {Γ : jG} (C : jC κ Γ cX2_nextOrder 6 RX2 (some .boolean)) {G : Nat → Nat} (l1 : Int32) (l2 : Int32) {v : Bool} {T' : MS} : ∀ (n : Nat) (T : MS) (l3 : Int32), m_nextOrder_b41 N l1 l2 n T l3 = some (v, T') → J κ Γ (1, 0, 0, (fun u w' => u = some (.int (b2i v)) ∧ w' = wM κ G T')) 6 (wM κ G T) 0 0 41 [some (.ref (G 0)), some (.int l1), some (.int l2), some (.int l3), none, none] [] := by
  intro n
  induction n with
  | zero => intro _ _ h; cases h
  | succ n ih =>
    intro T l3 h
    rw [m_nextOrder_b41] at h
    refine j_aload_n C dX2_nextOrder_41 rfl rfl ?_
    refine jm_geta hκ C 52 (by decide) rfl q1689 dX2_nextOrder_42 ?_
    refine j_iload_n C dX2_nextOrder_45 rfl rfl ?_
    obtain ⟨b1, h⟩ := chk_some h
    refine jm_iald hκ C 52 rfl b1 dX2_nextOrder_46 ?_
    refine j_aload_n C dX2_nextOrder_47 rfl rfl ?_
    refine jm_geta hκ C 52 (by decide) rfl q1689 dX2_nextOrder_48 ?_
    refine j_iload_n C dX2_nextOrder_51 rfl rfl ?_
    obtain ⟨b2, h⟩ := chk_some h
    refine jm_iald hκ C 52 rfl b2 dX2_nextOrder_52 ?_
    refine j_icmp_ge C dX2_nextOrder_53 (tgt := 62) (by decide) (fun c => ?_) (fun c => ?_)
    · replace h := ip c h
      refine j_aload_n C dX2_nextOrder_62 rfl rfl ?_
      refine j_iload_n C dX2_nextOrder_63 rfl rfl ?_
      refine j_iload_n C dX2_nextOrder_64 rfl rfl ?_
      obtain ⟨T5, e3, h⟩ := ob h
      refine jm_Vv hκ C (mt_m_exchange hκ G e3) hG_m_exchange hy_m_exchange rfl rfl dX2_nextOrder_65 (jfit.of (Nat.le_of_ble_eq_true rfl) (by decide) (Nat.zero_le _) (Nat.zero_le _) (Nat.le_of_ble_eq_true rfl)) rfl ?_
      refine j_iload_n C dX2_nextOrder_68 rfl rfl ?_
      refine j_iconst C (v := 1) dX2_nextOrder_69 rfl ?_
      refine j_iadd C dX2_nextOrder_70 ?_
      refine j_nmI h (fun x6 h => ?_)
      refine j_istore C dX2_nextOrder_71 (by decide) rfl ?_
      refine j_iload_n C dX2_nextOrder_73 rfl rfl ?_
      refine j_iconst C (v := 1) dX2_nextOrder_74 rfl ?_
      refine j_isub C dX2_nextOrder_75 ?_
      refine j_nmI h (fun x7 h => ?_)
      refine j_istore C dX2_nextOrder_76 (by decide) rfl ?_
      exact j_sub (wm_nextOrder_b78 hκ N C N _ _ _ h) ⟨rfl, ⟨rfl, ⟨rfl, trivial⟩⟩⟩
    replace h := im c h
    refine j_iincN C h dX2_nextOrder_56 rfl rfl (by decide) rfl (fun x8 h => ?_)
    refine j_goto C dX2_nextOrder_59 (tgt := 41) (by decide) ?_
    exact j_sub (ih _ _ h) ⟨rfl, ⟨rfl, ⟨rfl, ⟨rfl, trivial⟩⟩⟩⟩
def m_nextOrder_b31 (N : Nat) (l1 : Int32) (l2 : Int32) (T : MS) : Option (Bool × MS) :=
  (if 0 ≤ l2 then
  nm (l1 - 1) fun x1 =>
  m_nextOrder_b41 N l1 l2 N T x1
  else
  some (false, T))
theorem wm_nextOrder_b31 {κ : jK} (hκ : jStd κ) (N : Nat) {Γ : jG} (C : jC κ Γ cX2_nextOrder 6 RX2 (some .boolean)) {G : Nat → Nat} (l1 : Int32) (l2 : Int32) {v : Bool} {T' : MS} : ∀ (T : MS), m_nextOrder_b31 N l1 l2 T = some (v, T') → J κ Γ (1, 0, 0, (fun u w' => u = some (.int (b2i v)) ∧ w' = wM κ G T')) 6 (wM κ G T) 0 0 31 [some (.ref (G 0)), some (.int l1), some (.int l2), none, none, none] [] := by
  intro T h
  rw [m_nextOrder_b31] at h
  refine j_iload_n C dX2_nextOrder_31 rfl rfl ?_
  refine j_if_ge C dX2_nextOrder_32 (tgt := 37) (by decide) (fun c => ?_) (fun c => ?_)
  · replace h := ip c h
    refine j_iload_n C dX2_nextOrder_37 rfl rfl ?_
    refine j_iconst C (v := 1) dX2_nextOrder_38 rfl ?_
    refine j_isub C dX2_nextOrder_39 ?_
    refine j_nmI h (fun x1 h => ?_)
    refine j_istore_n C dX2_nextOrder_40 rfl (by decide) rfl ?_
    exact j_sub (wm_nextOrder_b41 hκ N C _ _ N _ _ h) ⟨rfl, ⟨rfl, ⟨rfl, ⟨rfl, trivial⟩⟩⟩⟩
  replace h := im c h
  refine j_iconst C (v := 0) dX2_nextOrder_35 rfl ?_
  obtain ⟨rfl, rfl⟩ := sp2 h
  exact j_zret C rfl dX2_nextOrder_36 (Nat.zero_le _) (Nat.zero_le _) ⟨rfl, rfl⟩
def m_nextOrder_b4 (N : Nat) (l1 : Int32) : Nat → MS → Int32 → Option (Bool × MS)
  | 0, _, _ => none
  | n + 1, T, l2 =>
    (if l2 < 0 then
    m_nextOrder_b31 N l1 l2 T
    else
    chk 9 l2 (
    chk 9 (l2 + 1) (
    (if (T.2.1 52 l2.toNatClampNeg) ≤ (T.2.1 52 (l2 + 1).toNatClampNeg) then
    m_nextOrder_b31 N l1 l2 T
    else
    nm (l2 + (-1)) fun x3 =>
    m_nextOrder_b4 N l1 n T x3))))
theorem wm_nextOrder_b4 {κ : jK} (hκ : jStd κ) (N : Nat) {Γ : jG} (C : jC κ Γ cX2_nextOrder 6 RX2 (some .boolean)) {G : Nat → Nat} (l1 : Int32) {v : Bool} {T' : MS} : ∀ (n : Nat) (T : MS) (l2 : Int32), m_nextOrder_b4 N l1 n T l2 = some (v, T') → J κ Γ (1, 0, 0, (fun u w' => u = some (.int (b2i v)) ∧ w' = wM κ G T')) 6 (wM κ G T) 0 0 4 [some (.ref (G 0)), some (.int l1), some (.int l2), none, none, none] [] := by
  intro n
  induction n with
  | zero => intro _ _ h; cases h
  | succ n ih =>
    intro T l2 h
    rw [m_nextOrder_b4] at h
    refine j_iload_n C dX2_nextOrder_4 rfl rfl ?_
    refine j_if_lt C dX2_nextOrder_5 (tgt := 31) (by decide) (fun c => ?_) (fun c => ?_)
    · replace h := ip c h
      exact j_sub (wm_nextOrder_b31 hκ N C _ _ _ h) ⟨rfl, ⟨rfl, ⟨rfl, trivial⟩⟩⟩
    replace h := im c h
    refine j_aload_n C dX2_nextOrder_8 rfl rfl ?_
    refine jm_geta hκ C 52 (by decide) rfl q1689 dX2_nextOrder_9 ?_
    refine j_iload_n C dX2_nextOrder_12 rfl rfl ?_
    obtain ⟨b1, h⟩ := chk_some h
    refine jm_iald hκ C 52 rfl b1 dX2_nextOrder_13 ?_
    refine j_aload_n C dX2_nextOrder_14 rfl rfl ?_
    refine jm_geta hκ C 52 (by decide) rfl q1689 dX2_nextOrder_15 ?_
    refine j_iload_n C dX2_nextOrder_18 rfl rfl ?_
    refine j_iconst C (v := 1) dX2_nextOrder_19 rfl ?_
    refine j_iadd C dX2_nextOrder_20 ?_
    obtain ⟨b2, h⟩ := chk_some h
    refine jm_iald hκ C 52 rfl b2 dX2_nextOrder_21 ?_
    refine j_icmp_le C dX2_nextOrder_22 (tgt := 31) (by decide) (fun c => ?_) (fun c => ?_)
    · replace h := ip c h
      exact j_sub (wm_nextOrder_b31 hκ N C _ _ _ h) ⟨rfl, ⟨rfl, ⟨rfl, trivial⟩⟩⟩
    replace h := im c h
    refine j_iincN C h dX2_nextOrder_25 rfl rfl (by decide) rfl (fun x3 h => ?_)
    refine j_goto C dX2_nextOrder_28 (tgt := 4) (by decide) ?_
    exact j_sub (ih _ _ h) ⟨rfl, ⟨rfl, ⟨rfl, trivial⟩⟩⟩
def m_nextOrder (N : Nat) (T : MS) (p1 : Int32) : Option (Bool × MS) :=
  nm (p1 - 2) fun x1 =>
  m_nextOrder_b4 N p1 N T x1
theorem mt_m_nextOrder {κ : jK} (hκ : jStd κ) (N : Nat) (G : Nat → Nat) {T : MS} {p1 : Int32} {v : Bool} {T' : MS} (h : m_nextOrder N T p1 = some (v, T')) : jM κ yX2_nextOrder (ws_ yX2_nextOrder cX2_nextOrder 6 (some .boolean)) 1 0 0 [.ref (G 0), .int p1] (wM κ G T) (fun u w' => u = some (.int (b2i v)) ∧ w' = wM κ G T') := by
  rw [m_nextOrder] at h
  refine jM.of (by decide) rfl (Nat.le_of_ble_eq_true rfl) fun Γ C _ => ?_
  show J κ Γ (1, 0, 0, (fun u w' => u = some (.int (b2i v)) ∧ w' = wM κ G T')) 6 (wM κ G T) 0 0 0 [some (.ref (G 0)), some (.int p1), none, none, none, none] []
  refine j_iload_n C dX2_nextOrder_0 rfl rfl ?_
  refine j_iconst C (v := 2) dX2_nextOrder_1 rfl ?_
  refine j_isub C dX2_nextOrder_2 ?_
  refine j_nmI h (fun x1 h => ?_)
  refine j_istore_n C dX2_nextOrder_3 rfl (by decide) rfl ?_
  exact j_sub (wm_nextOrder_b4 hκ N C _ N _ _ h) ⟨rfl, ⟨rfl, ⟨rfl, trivial⟩⟩⟩
/-! took -/
def m_took_b7 (N : Nat) (T : MS) (l1 : Int32) : Nat → Int32 → Int32 → Int32 → Option Int32
  | 0, _, _, _ => none
  | n + 1, l2, l3, l4 =>
    (if l1 ≤ l4 then
    (m_minutes T l3 (-1)).bind fun v2 =>
    some (l2 + v2)
    else
    chk 9 l4 (
    (m_minutes T l3 (T.2.1 52 l4.toNatClampNeg)).bind fun v5 =>
    nm (l2 + (v5 + (T.2.1 5 3))) fun x6 =>
    chk 9 l4 (
    nm (T.2.1 52 l4.toNatClampNeg) fun x8 =>
    nm (l4 + 1) fun x9 =>
    m_took_b7 N T l1 n x6 x8 x9)))
theorem wm_took_b7 {κ : jK} (hκ : jStd κ) (N : Nat) {Γ : jG} (C : jC κ Γ cX2_took 5 RX2 (some .int)) {G : Nat → Nat} {T : MS} (l1 : Int32) {v : Int32} : ∀ (n : Nat) (l2 : Int32) (l3 : Int32) (l4 : Int32), m_took_b7 N T l1 n l2 l3 l4 = some v → J κ Γ (3, 0, 0, (fun u w' => u = some (.int v) ∧ w' = wM κ G T)) 5 (wM κ G T) 0 0 7 [some (.ref (G 0)), some (.int l1), some (.int l2), some (.int l3), some (.int l4)] [] := by
  intro n
  induction n with
  | zero => intro _ _ _ h; cases h
  | succ n ih =>
    intro l2 l3 l4 h
    rw [m_took_b7] at h
    refine j_iload C dX2_took_7 rfl ?_
    refine j_iload_n C dX2_took_9 rfl rfl ?_
    refine j_icmp_ge C dX2_took_10 (tgt := 49) (by decide) (fun c => ?_) (fun c => ?_)
    · replace h := ip c h
      refine j_iload_n C dX2_took_49 rfl rfl ?_
      refine j_aload_n C dX2_took_50 rfl rfl ?_
      refine j_iload_n C dX2_took_51 rfl rfl ?_
      refine j_iconst C (v := (-1)) dX2_took_52 rfl ?_
      obtain ⟨v2, e1, h⟩ := ob h
      refine jm_Vi hκ C (mt_m_minutes hκ G e1) hG_m_minutes hy_m_minutes rfl rfl dX2_took_53 (jfit.of (Nat.le_of_ble_eq_true rfl) (by decide) (Nat.zero_le _) (Nat.zero_le _) (Nat.le_of_ble_eq_true rfl)) rfl ?_
      refine j_iadd C dX2_took_56 ?_
      obtain rfl := sp1 h
      exact j_iret C dX2_took_57 (Nat.zero_le _) (Nat.zero_le _) ⟨rfl, rfl⟩
    replace h := im c h
    refine j_iload_n C dX2_took_13 rfl rfl ?_
    refine j_aload_n C dX2_took_14 rfl rfl ?_
    refine j_iload_n C dX2_took_15 rfl rfl ?_
    refine j_aload_n C dX2_took_16 rfl rfl ?_
    refine jm_geta hκ C 52 (by decide) rfl q1689 dX2_took_17 ?_
    refine j_iload C dX2_took_20 rfl ?_
    obtain ⟨b3, h⟩ := chk_some h
    refine jm_iald hκ C 52 rfl b3 dX2_took_22 ?_
    obtain ⟨v5, e4, h⟩ := ob h
    refine jm_Vi hκ C (mt_m_minutes hκ G e4) hG_m_minutes hy_m_minutes rfl rfl dX2_took_23 (jfit.of (Nat.le_of_ble_eq_true rfl) (by decide) (Nat.zero_le _) (Nat.zero_le _) (Nat.le_of_ble_eq_true rfl)) rfl ?_
    refine j_aload_n C dX2_took_26 rfl rfl ?_
    refine jm_geta hκ C 5 (by decide) rfl q1642 dX2_took_27 ?_
    refine j_iconst C (v := 3) dX2_took_30 rfl ?_
    refine jm_ialdK hκ C 5 3 rfl rfl (vp_k rfl) dX2_took_31 ?_
    refine j_iadd C dX2_took_32 ?_
    refine j_iadd C dX2_took_33 ?_
    refine j_nmI h (fun x6 h => ?_)
    refine j_istore_n C dX2_took_34 rfl (by decide) rfl ?_
    refine j_aload_n C dX2_took_35 rfl rfl ?_
    refine jm_geta hκ C 52 (by decide) rfl q1689 dX2_took_36 ?_
    refine j_iload C dX2_took_39 rfl ?_
    obtain ⟨b7, h⟩ := chk_some h
    refine jm_iald hκ C 52 rfl b7 dX2_took_41 ?_
    refine j_nmI h (fun x8 h => ?_)
    refine j_istore_n C dX2_took_42 rfl (by decide) rfl ?_
    refine j_iincN C h dX2_took_43 rfl rfl (by decide) rfl (fun x9 h => ?_)
    refine j_goto C dX2_took_46 (tgt := 7) (by decide) ?_
    exact j_sub (ih _ _ _ h) ⟨rfl, ⟨rfl, ⟨rfl, ⟨rfl, ⟨rfl, trivial⟩⟩⟩⟩⟩
def m_took (N : Nat) (T : MS) (p1 : Int32) : Option Int32 :=
  m_took_b7 N T p1 N 0 (-1) 0
theorem mt_m_took {κ : jK} (hκ : jStd κ) (N : Nat) (G : Nat → Nat) {T : MS} {p1 : Int32} {v : Int32} (h : m_took N T p1 = some v) : jM κ yX2_took (ws_ yX2_took cX2_took 5 (some .int)) 3 0 0 [.ref (G 0), .int p1] (wM κ G T) (fun u w' => u = some (.int v) ∧ w' = wM κ G T) := by
  rw [m_took] at h
  refine jM.of (by decide) rfl (Nat.le_of_ble_eq_true rfl) fun Γ C _ => ?_
  show J κ Γ (3, 0, 0, (fun u w' => u = some (.int v) ∧ w' = wM κ G T)) 5 (wM κ G T) 0 0 0 [some (.ref (G 0)), some (.int p1), none, none, none] []
  refine j_iconst C (v := 0) dX2_took_0 rfl ?_
  refine j_istore_n C dX2_took_1 rfl (by decide) rfl ?_
  refine j_iconst C (v := (-1)) dX2_took_2 rfl ?_
  refine j_istore_n C dX2_took_3 rfl (by decide) rfl ?_
  refine j_iconst C (v := 0) dX2_took_4 rfl ?_
  refine j_istore C dX2_took_5 (by decide) rfl ?_
  exact j_sub (wm_took_b7 hκ N C _ N _ _ _ h) ⟨rfl, ⟨rfl, ⟨rfl, ⟨rfl, ⟨rfl, trivial⟩⟩⟩⟩⟩
/-! shortestOf -/
def m_shortestOf_b70 (N : Nat) (l2 : Int32) (l3 : Int32) (k42 : MS → Int32 → Int32 → Option (Int32 × MS)) : Nat → MS → Int32 → Option (Int32 × MS)
  | 0, _, _ => none
  | n + 1, T, l6 =>
    (if l2 ≤ l6 then
    b2 (m_nextOrder N T l2) fun v2 T3 =>
    k42 T3 l3 (b2i v2)
    else
    chk 9 l6 (
    chk 9 l6 (
    nm (sA T 53 l6.toNatClampNeg (T.2.1 52 l6.toNatClampNeg)) fun T5 =>
    nm (l6 + 1) fun x7 =>
    m_shortestOf_b70 N l2 l3 k42 n T5 x7)))
theorem wm_shortestOf_b70 {κ : jK} (hκ : jStd κ) (N : Nat) {Γ : jG} (C : jC κ Γ cX2_shortestOf 7 RX2 (some .int)) {G : Nat → Nat} (l2 : Int32) (l3 : Int32) (k42 : MS → Int32 → Int32 → Option (Int32 × MS)) {v : Int32} {T' : MS} (hk42 : ∀ (T : MS) (l3 : Int32) (l4 : Int32), k42 T l3 l4 = some (v, T') → J κ Γ (4, 0, 0, (fun u w' => u = some (.int v) ∧ w' = wM κ G T')) 7 (wM κ G T) 0 0 42 [some (.ref (G 0)), none, some (.int l2), some (.int l3), some (.int l4), none, none] []) : ∀ (n : Nat) (T : MS) (l6 : Int32), m_shortestOf_b70 N l2 l3 k42 n T l6 = some (v, T') → J κ Γ (4, 0, 0, (fun u w' => u = some (.int v) ∧ w' = wM κ G T')) 7 (wM κ G T) 0 0 70 [some (.ref (G 0)), none, some (.int l2), some (.int l3), none, none, some (.int l6)] [] := by
  intro n
  induction n with
  | zero => intro _ _ h; cases h
  | succ n ih =>
    intro T l6 h
    rw [m_shortestOf_b70] at h
    refine j_iload C dX2_shortestOf_70 rfl ?_
    refine j_iload_n C dX2_shortestOf_72 rfl rfl ?_
    refine j_icmp_ge C dX2_shortestOf_73 (tgt := 96) (by decide) (fun c => ?_) (fun c => ?_)
    · replace h := ip c h
      refine j_aload_n C dX2_shortestOf_96 rfl rfl ?_
      refine j_iload_n C dX2_shortestOf_97 rfl rfl ?_
      obtain ⟨v2, T3, e1, h⟩ := ob2 h
      refine jm_Vi hκ C (mt_m_nextOrder hκ N G e1) hG_m_nextOrder hy_m_nextOrder rfl rfl dX2_shortestOf_98 (jfit.of (Nat.le_of_ble_eq_true rfl) (by decide) (Nat.zero_le _) (Nat.zero_le _) (Nat.le_of_ble_eq_true rfl)) rfl ?_
      refine j_istore C dX2_shortestOf_101 (by decide) rfl ?_
      refine j_goto C dX2_shortestOf_103 (tgt := 42) (by decide) ?_
      exact j_sub (hk42 _ _ _ h) ⟨rfl, ⟨rfl, ⟨rfl, ⟨rfl, trivial⟩⟩⟩⟩
    replace h := im c h
    refine j_aload_n C dX2_shortestOf_76 rfl rfl ?_
    refine jm_geta hκ C 53 (by decide) rfl q1690 dX2_shortestOf_77 ?_
    refine j_iload C dX2_shortestOf_80 rfl ?_
    refine j_aload_n C dX2_shortestOf_82 rfl rfl ?_
    refine jm_geta hκ C 52 (by decide) rfl q1689 dX2_shortestOf_83 ?_
    refine j_iload C dX2_shortestOf_86 rfl ?_
    obtain ⟨b4, h⟩ := chk_some h
    refine jm_iald hκ C 52 rfl b4 dX2_shortestOf_88 ?_
    obtain ⟨b6, h⟩ := chk_some h
    refine jm_iast hκ C 53 rfl b6 dX2_shortestOf_89 ?_
    refine jm_nmT h (fun T5 h => ?_)
    refine j_iincN C h dX2_shortestOf_90 rfl rfl (by decide) rfl (fun x7 h => ?_)
    refine j_goto C dX2_shortestOf_93 (tgt := 70) (by decide) ?_
    exact j_sub (ih _ _ h) ⟨rfl, ⟨rfl, ⟨rfl, ⟨rfl, trivial⟩⟩⟩⟩
def m_shortestOf_b42 (N : Nat) (l2 : Int32) : Nat → MS → Int32 → Int32 → Option (Int32 × MS)
  | 0, _, _, _ => none
  | n + 1, T, l3, l4 =>
    (if l4 = 0 then
    some (l3, T)
    else
    (m_took N T l2).bind fun v2 =>
    (if l3 < 0 then
    m_shortestOf_b70 N l2 v2 (fun t y3 y4 => m_shortestOf_b42 N l2 n t y3 y4) N T 0
    else
    (if l3 ≤ v2 then
    b2 (m_nextOrder N T l2) fun v4 T5 =>
    m_shortestOf_b42 N l2 n T5 l3 (b2i v4)
    else
    m_shortestOf_b70 N l2 v2 (fun t y3 y4 => m_shortestOf_b42 N l2 n t y3 y4) N T 0)))
theorem wm_shortestOf_b42 {κ : jK} (hκ : jStd κ) (N : Nat) {Γ : jG} (C : jC κ Γ cX2_shortestOf 7 RX2 (some .int)) {G : Nat → Nat} (l2 : Int32) {v : Int32} {T' : MS} : ∀ (n : Nat) (T : MS) (l3 : Int32) (l4 : Int32), m_shortestOf_b42 N l2 n T l3 l4 = some (v, T') → J κ Γ (4, 0, 0, (fun u w' => u = some (.int v) ∧ w' = wM κ G T')) 7 (wM κ G T) 0 0 42 [some (.ref (G 0)), none, some (.int l2), some (.int l3), some (.int l4), none, none] [] := by
  intro n
  induction n with
  | zero => intro _ _ _ h; cases h
  | succ n ih =>
    intro T l3 l4 h
    rw [m_shortestOf_b42] at h
    refine j_iload C dX2_shortestOf_42 rfl ?_
    refine j_if_eq C dX2_shortestOf_44 (tgt := 106) (by decide) (fun c => ?_) (fun c => ?_)
    · replace h := ip c h
      refine j_iload_n C dX2_shortestOf_106 rfl rfl ?_
      obtain ⟨rfl, rfl⟩ := sp2 h
      exact j_iret C dX2_shortestOf_107 (Nat.zero_le _) (Nat.zero_le _) ⟨rfl, rfl⟩
    replace h := im c h
    refine j_aload_n C dX2_shortestOf_47 rfl rfl ?_
    refine j_iload_n C dX2_shortestOf_48 rfl rfl ?_
    obtain ⟨v2, e1, h⟩ := ob h
    refine jm_Vi hκ C (mt_m_took hκ N G e1) hG_m_took hy_m_took rfl rfl dX2_shortestOf_49 (jfit.of (Nat.le_of_ble_eq_true rfl) (by decide) (Nat.zero_le _) (Nat.zero_le _) (Nat.le_of_ble_eq_true rfl)) rfl ?_
    refine j_istore C dX2_shortestOf_52 (by decide) rfl ?_
    refine j_iload_n C dX2_shortestOf_54 rfl rfl ?_
    refine j_if_lt C dX2_shortestOf_55 (tgt := 64) (by decide) (fun c => ?_) (fun c => ?_)
    · replace h := ip c h
      refine j_iload C dX2_shortestOf_64 rfl ?_
      refine j_istore_n C dX2_shortestOf_66 rfl (by decide) rfl ?_
      refine j_iconst C (v := 0) dX2_shortestOf_67 rfl ?_
      refine j_istore C dX2_shortestOf_68 (by decide) rfl ?_
      exact j_sub (wm_shortestOf_b70 hκ N C _ _ _ (fun _ _ _ h => ih _ _ _ h) N _ _ h) ⟨rfl, ⟨rfl, ⟨rfl, ⟨rfl, trivial⟩⟩⟩⟩
    replace h := im c h
    refine j_iload C dX2_shortestOf_58 rfl ?_
    refine j_iload_n C dX2_shortestOf_60 rfl rfl ?_
    refine j_icmp_ge C dX2_shortestOf_61 (tgt := 96) (by decide) (fun c => ?_) (fun c => ?_)
    · replace h := ip c h
      refine j_aload_n C dX2_shortestOf_96 rfl rfl ?_
      refine j_iload_n C dX2_shortestOf_97 rfl rfl ?_
      obtain ⟨v4, T5, e3, h⟩ := ob2 h
      refine jm_Vi hκ C (mt_m_nextOrder hκ N G e3) hG_m_nextOrder hy_m_nextOrder rfl rfl dX2_shortestOf_98 (jfit.of (Nat.le_of_ble_eq_true rfl) (by decide) (Nat.zero_le _) (Nat.zero_le _) (Nat.le_of_ble_eq_true rfl)) rfl ?_
      refine j_istore C dX2_shortestOf_101 (by decide) rfl ?_
      refine j_goto C dX2_shortestOf_103 (tgt := 42) (by decide) ?_
      exact j_sub (ih _ _ _ h) ⟨rfl, ⟨rfl, ⟨rfl, ⟨rfl, trivial⟩⟩⟩⟩
    replace h := im c h
    refine j_iload C dX2_shortestOf_64 rfl ?_
    refine j_istore_n C dX2_shortestOf_66 rfl (by decide) rfl ?_
    refine j_iconst C (v := 0) dX2_shortestOf_67 rfl ?_
    refine j_istore C dX2_shortestOf_68 (by decide) rfl ?_
    exact j_sub (wm_shortestOf_b70 hκ N C _ _ _ (fun _ _ _ h => ih _ _ _ h) N _ _ h) ⟨rfl, ⟨rfl, ⟨rfl, ⟨rfl, trivial⟩⟩⟩⟩
def m_shortestOf_b4 (N : Nat) (l1 : Int32) : Nat → MS → Int32 → Int32 → Option (Int32 × MS)
  | 0, _, _, _ => none
  | n + 1, T, l2, l3 =>
    (if (T.1 0) ≤ l3 then
    m_shortestOf_b42 N l2 N T (-1) 1
    else
    (if ((l1 >>> (l3 &&& 31)) &&& 1) = 1 then
    nm (l2 + 1) fun x2 =>
    chk 9 l2 (
    nm (sA T 52 l2.toNatClampNeg l3) fun T3 =>
    nm (l3 + 1) fun x5 =>
    m_shortestOf_b4 N l1 n T3 x2 x5)
    else
    nm (l3 + 1) fun x1 =>
    m_shortestOf_b4 N l1 n T l2 x1))
theorem wm_shortestOf_b4 {κ : jK} (hκ : jStd κ) (N : Nat) {Γ : jG} (C : jC κ Γ cX2_shortestOf 7 RX2 (some .int)) {G : Nat → Nat} (l1 : Int32) {v : Int32} {T' : MS} : ∀ (n : Nat) (T : MS) (l2 : Int32) (l3 : Int32), m_shortestOf_b4 N l1 n T l2 l3 = some (v, T') → J κ Γ (4, 0, 0, (fun u w' => u = some (.int v) ∧ w' = wM κ G T')) 7 (wM κ G T) 0 0 4 [some (.ref (G 0)), some (.int l1), some (.int l2), some (.int l3), none, none, none] [] := by
  intro n
  induction n with
  | zero => intro _ _ _ h; cases h
  | succ n ih =>
    intro T l2 l3 h
    rw [m_shortestOf_b4] at h
    refine j_iload_n C dX2_shortestOf_4 rfl rfl ?_
    refine j_aload_n C dX2_shortestOf_5 rfl rfl ?_
    refine jm_geti hκ C 0 (by decide) rfl q1637 dX2_shortestOf_6 ?_
    refine j_icmp_ge C dX2_shortestOf_9 (tgt := 37) (by decide) (fun c => ?_) (fun c => ?_)
    · replace h := ip c h
      refine j_iconst C (v := (-1)) dX2_shortestOf_37 rfl ?_
      refine j_istore_n C dX2_shortestOf_38 rfl (by decide) rfl ?_
      refine j_iconst C (v := 1) dX2_shortestOf_39 rfl ?_
      refine j_istore C dX2_shortestOf_40 (by decide) rfl ?_
      exact j_sub (wm_shortestOf_b42 hκ N C _ N _ _ _ h) ⟨rfl, ⟨rfl, ⟨rfl, ⟨rfl, trivial⟩⟩⟩⟩
    replace h := im c h
    refine j_iload_n C dX2_shortestOf_12 rfl rfl ?_
    refine j_iload_n C dX2_shortestOf_13 rfl rfl ?_
    refine j_ishr C dX2_shortestOf_14 ?_
    refine j_iconst C (v := 1) dX2_shortestOf_15 rfl ?_
    refine j_iand C dX2_shortestOf_16 ?_
    refine j_iconst C (v := 1) dX2_shortestOf_17 rfl ?_
    refine j_icmp_ne C dX2_shortestOf_18 (tgt := 31) (by decide) (fun c => ?_) (fun c => ?_)
    · replace h := im c h
      refine j_iincN C h dX2_shortestOf_31 rfl rfl (by decide) rfl (fun x1 h => ?_)
      refine j_goto C dX2_shortestOf_34 (tgt := 4) (by decide) ?_
      exact j_sub (ih _ _ _ h) ⟨rfl, ⟨rfl, ⟨rfl, ⟨rfl, trivial⟩⟩⟩⟩
    replace h := ip c h
    refine j_aload_n C dX2_shortestOf_21 rfl rfl ?_
    refine jm_geta hκ C 52 (by decide) rfl q1689 dX2_shortestOf_22 ?_
    refine j_iload_n C dX2_shortestOf_25 rfl rfl ?_
    refine j_iincN C h dX2_shortestOf_26 rfl rfl (by decide) rfl (fun x2 h => ?_)
    refine j_iload_n C dX2_shortestOf_29 rfl rfl ?_
    obtain ⟨b4, h⟩ := chk_some h
    refine jm_iast hκ C 52 rfl b4 dX2_shortestOf_30 ?_
    refine jm_nmT h (fun T3 h => ?_)
    refine j_iincN C h dX2_shortestOf_31 rfl rfl (by decide) rfl (fun x5 h => ?_)
    refine j_goto C dX2_shortestOf_34 (tgt := 4) (by decide) ?_
    exact j_sub (ih _ _ _ h) ⟨rfl, ⟨rfl, ⟨rfl, ⟨rfl, trivial⟩⟩⟩⟩
def m_shortestOf (N : Nat) (T : MS) (p1 : Int32) : Option (Int32 × MS) :=
  m_shortestOf_b4 N p1 N T 0 0
theorem mt_m_shortestOf {κ : jK} (hκ : jStd κ) (N : Nat) (G : Nat → Nat) {T : MS} {p1 : Int32} {v : Int32} {T' : MS} (h : m_shortestOf N T p1 = some (v, T')) : jM κ yX2_shortestOf (ws_ yX2_shortestOf cX2_shortestOf 7 (some .int)) 4 0 0 [.ref (G 0), .int p1] (wM κ G T) (fun u w' => u = some (.int v) ∧ w' = wM κ G T') := by
  rw [m_shortestOf] at h
  refine jM.of (by decide) rfl (Nat.le_of_ble_eq_true rfl) fun Γ C _ => ?_
  show J κ Γ (4, 0, 0, (fun u w' => u = some (.int v) ∧ w' = wM κ G T')) 7 (wM κ G T) 0 0 0 [some (.ref (G 0)), some (.int p1), none, none, none, none, none] []
  refine j_iconst C (v := 0) dX2_shortestOf_0 rfl ?_
  refine j_istore_n C dX2_shortestOf_1 rfl (by decide) rfl ?_
  refine j_iconst C (v := 0) dX2_shortestOf_2 rfl ?_
  refine j_istore_n C dX2_shortestOf_3 rfl (by decide) rfl ?_
  exact j_sub (wm_shortestOf_b4 hκ N C _ N _ _ _ h) ⟨rfl, ⟨rfl, ⟨rfl, ⟨rfl, trivial⟩⟩⟩⟩
/-! shortest -/
def m_shortest (N : Nat) (T : MS) (p1 : Int32) (p2 : Int32) : Option (Int32 × MS) :=
  (m_isSet T p1).bind fun v2 =>
  (if (b2i v2) = 0 then
  some ((-1), T)
  else
  (if (-1) ≤ p2 then
  (j_bitCount p1).bind fun v4 =>
  (if v4 ≤ 7 then
  (j_bitCount p1).bind fun v6 =>
  (if p2 < v6 then
  b2 (m_shortestOf N T p1) fun v8 T9 =>
  (if p2 = (-1) then
  some (v8, T9)
  else
  chk 9 p2 (
  some (T9.2.1 53 p2.toNatClampNeg, T9)))
  else
  some ((-2), T))
  else
  some ((-5), T))
  else
  some ((-1), T)))
theorem mt_m_shortest {κ : jK} (hκ : jStd κ) (N : Nat) (G : Nat → Nat) {T : MS} {p1 : Int32} {p2 : Int32} {v : Int32} {T' : MS} (h : m_shortest N T p1 p2 = some (v, T')) : jM κ yX2_shortest (ws_ yX2_shortest cX2_shortest 4 (some .int)) 5 0 0 [.ref (G 0), .int p1, .int p2] (wM κ G T) (fun u w' => u = some (.int v) ∧ w' = wM κ G T') := by
  rw [m_shortest] at h
  refine jM.of (by decide) rfl (Nat.le_of_ble_eq_true rfl) fun Γ C _ => ?_
  show J κ Γ (5, 0, 0, (fun u w' => u = some (.int v) ∧ w' = wM κ G T')) 4 (wM κ G T) 0 0 0 [some (.ref (G 0)), some (.int p1), some (.int p2), none] []
  refine j_aload_n C dX2_shortest_0 rfl rfl ?_
  refine j_iload_n C dX2_shortest_1 rfl rfl ?_
  obtain ⟨v2, e1, h⟩ := ob h
  refine jm_Vi hκ C (mt_m_isSet hκ G e1) hG_m_isSet hy_m_isSet rfl rfl dX2_shortest_2 (jfit.of (Nat.le_of_ble_eq_true rfl) (by decide) (Nat.zero_le _) (Nat.zero_le _) (Nat.le_of_ble_eq_true rfl)) rfl ?_
  refine j_if_eq C dX2_shortest_5 (tgt := 13) (by decide) (fun c => ?_) (fun c => ?_)
  · replace h := ip c h
    refine j_iconst C (v := (-1)) dX2_shortest_13 rfl ?_
    obtain ⟨rfl, rfl⟩ := sp2 h
    exact j_iret C dX2_shortest_14 (Nat.zero_le _) (Nat.zero_le _) ⟨rfl, rfl⟩
  replace h := im c h
  refine j_iload_n C dX2_shortest_8 rfl rfl ?_
  refine j_iconst C (v := (-1)) dX2_shortest_9 rfl ?_
  refine j_icmp_ge C dX2_shortest_10 (tgt := 15) (by decide) (fun c => ?_) (fun c => ?_)
  · replace h := ip c h
    refine j_iload_n C dX2_shortest_15 rfl rfl ?_
    obtain ⟨v4, e3, h⟩ := ob h
    refine j_Si hκ.1 C (mt_j_bitCount hκ e3) hG_j_bitCount_m hy_j_bitCount rfl dX2_shortest_16 (jfit.of (Nat.le_of_ble_eq_true rfl) (by decide) (Nat.zero_le _) (Nat.zero_le _) (Nat.le_of_ble_eq_true rfl)) rfl ?_
    refine j_bipush C (v := 7) dX2_shortest_19 rfl ?_
    refine j_icmp_le C dX2_shortest_21 (tgt := 27) (by decide) (fun c => ?_) (fun c => ?_)
    · replace h := ip c h
      refine j_iload_n C dX2_shortest_27 rfl rfl ?_
      refine j_iload_n C dX2_shortest_28 rfl rfl ?_
      obtain ⟨v6, e5, h⟩ := ob h
      refine j_Si hκ.1 C (mt_j_bitCount hκ e5) hG_j_bitCount_m hy_j_bitCount rfl dX2_shortest_29 (jfit.of (Nat.le_of_ble_eq_true rfl) (by decide) (Nat.zero_le _) (Nat.zero_le _) (Nat.le_of_ble_eq_true rfl)) rfl ?_
      refine j_icmp_lt C dX2_shortest_32 (tgt := 38) (by decide) (fun c => ?_) (fun c => ?_)
      · replace h := ip c h
        refine j_aload_n C dX2_shortest_38 rfl rfl ?_
        refine j_iload_n C dX2_shortest_39 rfl rfl ?_
        obtain ⟨v8, T9, e7, h⟩ := ob2 h
        refine jm_Vi hκ C (mt_m_shortestOf hκ N G e7) hG_m_shortestOf hy_m_shortestOf rfl rfl dX2_shortest_40 (jfit.of (Nat.le_of_ble_eq_true rfl) (by decide) (Nat.zero_le _) (Nat.zero_le _) (Nat.le_of_ble_eq_true rfl)) rfl ?_
        refine j_istore_n C dX2_shortest_43 rfl (by decide) rfl ?_
        refine j_iload_n C dX2_shortest_44 rfl rfl ?_
        refine j_iconst C (v := (-1)) dX2_shortest_45 rfl ?_
        refine j_icmp_ne C dX2_shortest_46 (tgt := 53) (by decide) (fun c => ?_) (fun c => ?_)
        · replace h := im c h
          refine j_aload_n C dX2_shortest_53 rfl rfl ?_
          refine jm_geta hκ C 53 (by decide) rfl q1690 dX2_shortest_54 ?_
          refine j_iload_n C dX2_shortest_57 rfl rfl ?_
          obtain ⟨b10, h⟩ := chk_some h
          refine jm_iald hκ C 53 rfl b10 dX2_shortest_58 ?_
          obtain ⟨rfl, rfl⟩ := sp2 h
          exact j_iret C dX2_shortest_59 (Nat.zero_le _) (Nat.zero_le _) ⟨rfl, rfl⟩
        replace h := ip c h
        refine j_iload_n C dX2_shortest_49 rfl rfl ?_
        refine j_goto C dX2_shortest_50 (tgt := 59) (by decide) ?_
        obtain ⟨rfl, rfl⟩ := sp2 h
        exact j_iret C dX2_shortest_59 (Nat.zero_le _) (Nat.zero_le _) ⟨rfl, rfl⟩
      replace h := im c h
      refine j_bipush C (v := (-2)) dX2_shortest_35 rfl ?_
      obtain ⟨rfl, rfl⟩ := sp2 h
      exact j_iret C dX2_shortest_37 (Nat.zero_le _) (Nat.zero_le _) ⟨rfl, rfl⟩
    replace h := im c h
    refine j_bipush C (v := (-5)) dX2_shortest_24 rfl ?_
    obtain ⟨rfl, rfl⟩ := sp2 h
    exact j_iret C dX2_shortest_26 (Nat.zero_le _) (Nat.zero_le _) ⟨rfl, rfl⟩
  replace h := im c h
  refine j_iconst C (v := (-1)) dX2_shortest_13 rfl ?_
  obtain ⟨rfl, rfl⟩ := sp2 h
  exact j_iret C dX2_shortest_14 (Nat.zero_le _) (Nat.zero_le _) ⟨rfl, rfl⟩
/-! leftOut -/
def m_leftOut_b41 (N : Nat) (l1 : Int32) (l2 : Int32) : Nat → MS → Int32 → Int32 → Int32 → Option (Int32 × MS)
  | 0, _, _, _, _ => none
  | n + 1, T, l3, l4, l5 =>
    (if (T.1 0) ≤ l5 then
    (if l2 = 0 then
    some (l3, T)
    else
    some (l4, T))
    else
    (if ((l1 >>> (l5 &&& 31)) &&& 1) = 0 then
    nm (l5 + 1) fun x7 =>
    m_leftOut_b41 N l1 l2 n T l3 l4 x7
    else
    b2 (m_shortestOf N T (l1 &&& ((1 <<< (l5 &&& 31)) ^^^ (-1)))) fun v2 T3 =>
    (if l3 = (-2) then
    nm (l5 + 1) fun x4 =>
    m_leftOut_b41 N l1 l2 n T3 l5 v2 x4
    else
    (if v2 < l4 then
    nm (l5 + 1) fun x5 =>
    m_leftOut_b41 N l1 l2 n T3 l5 v2 x5
    else
    nm (l5 + 1) fun x6 =>
    m_leftOut_b41 N l1 l2 n T3 l3 l4 x6))))
theorem wm_leftOut_b41 {κ : jK} (hκ : jStd κ) (N : Nat) {Γ : jG} (C : jC κ Γ cX2_leftOut 7 RX2 (some .int)) {G : Nat → Nat} (l1 : Int32) (l2 : Int32) {v : Int32} {T' : MS} : ∀ (n : Nat) (T : MS) (l3 : Int32) (l4 : Int32) (l5 : Int32), m_leftOut_b41 N l1 l2 n T l3 l4 l5 = some (v, T') → J κ Γ (5, 0, 0, (fun u w' => u = some (.int v) ∧ w' = wM κ G T')) 7 (wM κ G T) 0 0 41 [some (.ref (G 0)), some (.int l1), some (.int l2), some (.int l3), some (.int l4), some (.int l5), none] [] := by
  intro n
  induction n with
  | zero => intro _ _ _ _ h; cases h
  | succ n ih =>
    intro T l3 l4 l5 h
    rw [m_leftOut_b41] at h
    refine j_iload C dX2_leftOut_41 rfl ?_
    refine j_aload_n C dX2_leftOut_43 rfl rfl ?_
    refine jm_geti hκ C 0 (by decide) rfl q1637 dX2_leftOut_44 ?_
    refine j_icmp_ge C dX2_leftOut_47 (tgt := 105) (by decide) (fun c => ?_) (fun c => ?_)
    · replace h := ip c h
      refine j_iload_n C dX2_leftOut_105 rfl rfl ?_
      refine j_if_ne C dX2_leftOut_106 (tgt := 113) (by decide) (fun c => ?_) (fun c => ?_)
      · replace h := im c h
        refine j_iload C dX2_leftOut_113 rfl ?_
        obtain ⟨rfl, rfl⟩ := sp2 h
        exact j_iret C dX2_leftOut_115 (Nat.zero_le _) (Nat.zero_le _) ⟨rfl, rfl⟩
      replace h := ip c h
      refine j_iload_n C dX2_leftOut_109 rfl rfl ?_
      refine j_goto C dX2_leftOut_110 (tgt := 115) (by decide) ?_
      obtain ⟨rfl, rfl⟩ := sp2 h
      exact j_iret C dX2_leftOut_115 (Nat.zero_le _) (Nat.zero_le _) ⟨rfl, rfl⟩
    replace h := im c h
    refine j_iload_n C dX2_leftOut_50 rfl rfl ?_
    refine j_iload C dX2_leftOut_51 rfl ?_
    refine j_ishr C dX2_leftOut_53 ?_
    refine j_iconst C (v := 1) dX2_leftOut_54 rfl ?_
    refine j_iand C dX2_leftOut_55 ?_
    refine j_if_ne C dX2_leftOut_56 (tgt := 62) (by decide) (fun c => ?_) (fun c => ?_)
    · replace h := im c h
      refine j_aload_n C dX2_leftOut_62 rfl rfl ?_
      refine j_iload_n C dX2_leftOut_63 rfl rfl ?_
      refine j_iconst C (v := 1) dX2_leftOut_64 rfl ?_
      refine j_iload C dX2_leftOut_65 rfl ?_
      refine j_ishl C dX2_leftOut_67 ?_
      refine j_iconst C (v := (-1)) dX2_leftOut_68 rfl ?_
      refine j_ixor C dX2_leftOut_69 ?_
      refine j_iand C dX2_leftOut_70 ?_
      obtain ⟨v2, T3, e1, h⟩ := ob2 h
      refine jm_Vi hκ C (mt_m_shortestOf hκ N G e1) hG_m_shortestOf hy_m_shortestOf rfl rfl dX2_leftOut_71 (jfit.of (Nat.le_of_ble_eq_true rfl) (by decide) (Nat.zero_le _) (Nat.zero_le _) (Nat.le_of_ble_eq_true rfl)) rfl ?_
      refine j_istore C dX2_leftOut_74 (by decide) rfl ?_
      refine j_iload_n C dX2_leftOut_76 rfl rfl ?_
      refine j_bipush C (v := (-2)) dX2_leftOut_77 rfl ?_
      refine j_icmp_eq C dX2_leftOut_79 (tgt := 92) (by decide) (fun c => ?_) (fun c => ?_)
      · replace h := ip c h
        refine j_iload C dX2_leftOut_92 rfl ?_
        refine j_istore C dX2_leftOut_94 (by decide) rfl ?_
        refine j_iload C dX2_leftOut_96 rfl ?_
        refine j_istore_n C dX2_leftOut_98 rfl (by decide) rfl ?_
        refine j_iincN C h dX2_leftOut_99 rfl rfl (by decide) rfl (fun x4 h => ?_)
        refine j_goto C dX2_leftOut_102 (tgt := 41) (by decide) ?_
        exact j_sub (ih _ _ _ _ h) ⟨rfl, ⟨rfl, ⟨rfl, ⟨rfl, ⟨rfl, ⟨rfl, trivial⟩⟩⟩⟩⟩⟩
      replace h := im c h
      refine j_iload C dX2_leftOut_82 rfl ?_
      refine j_iload C dX2_leftOut_84 rfl ?_
      refine j_icmp_lt C dX2_leftOut_86 (tgt := 92) (by decide) (fun c => ?_) (fun c => ?_)
      · replace h := ip c h
        refine j_iload C dX2_leftOut_92 rfl ?_
        refine j_istore C dX2_leftOut_94 (by decide) rfl ?_
        refine j_iload C dX2_leftOut_96 rfl ?_
        refine j_istore_n C dX2_leftOut_98 rfl (by decide) rfl ?_
        refine j_iincN C h dX2_leftOut_99 rfl rfl (by decide) rfl (fun x5 h => ?_)
        refine j_goto C dX2_leftOut_102 (tgt := 41) (by decide) ?_
        exact j_sub (ih _ _ _ _ h) ⟨rfl, ⟨rfl, ⟨rfl, ⟨rfl, ⟨rfl, ⟨rfl, trivial⟩⟩⟩⟩⟩⟩
      replace h := im c h
      refine j_goto C dX2_leftOut_89 (tgt := 99) (by decide) ?_
      refine j_iincN C h dX2_leftOut_99 rfl rfl (by decide) rfl (fun x6 h => ?_)
      refine j_goto C dX2_leftOut_102 (tgt := 41) (by decide) ?_
      exact j_sub (ih _ _ _ _ h) ⟨rfl, ⟨rfl, ⟨rfl, ⟨rfl, ⟨rfl, ⟨rfl, trivial⟩⟩⟩⟩⟩⟩
    replace h := ip c h
    refine j_goto C dX2_leftOut_59 (tgt := 99) (by decide) ?_
    refine j_iincN C h dX2_leftOut_99 rfl rfl (by decide) rfl (fun x7 h => ?_)
    refine j_goto C dX2_leftOut_102 (tgt := 41) (by decide) ?_
    exact j_sub (ih _ _ _ _ h) ⟨rfl, ⟨rfl, ⟨rfl, ⟨rfl, ⟨rfl, ⟨rfl, trivial⟩⟩⟩⟩⟩⟩
def m_leftOut (N : Nat) (T : MS) (p1 : Int32) (p2 : Int32) : Option (Int32 × MS) :=
  (m_isSet T p1).bind fun v2 =>
  (if (b2i v2) = 0 then
  some ((-1), T)
  else
  (m_within p2 0 1).bind fun v4 =>
  (if (b2i v4) = 0 then
  some ((-1), T)
  else
  (j_bitCount p1).bind fun v6 =>
  (if v6 ≤ 7 then
  m_leftOut_b41 N p1 p2 N T (-2) (-2) 0
  else
  some ((-5), T))))
theorem mt_m_leftOut {κ : jK} (hκ : jStd κ) (N : Nat) (G : Nat → Nat) {T : MS} {p1 : Int32} {p2 : Int32} {v : Int32} {T' : MS} (h : m_leftOut N T p1 p2 = some (v, T')) : jM κ yX2_leftOut (ws_ yX2_leftOut cX2_leftOut 7 (some .int)) 5 0 0 [.ref (G 0), .int p1, .int p2] (wM κ G T) (fun u w' => u = some (.int v) ∧ w' = wM κ G T') := by
  rw [m_leftOut] at h
  refine jM.of (by decide) rfl (Nat.le_of_ble_eq_true rfl) fun Γ C _ => ?_
  show J κ Γ (5, 0, 0, (fun u w' => u = some (.int v) ∧ w' = wM κ G T')) 7 (wM κ G T) 0 0 0 [some (.ref (G 0)), some (.int p1), some (.int p2), none, none, none, none] []
  refine j_aload_n C dX2_leftOut_0 rfl rfl ?_
  refine j_iload_n C dX2_leftOut_1 rfl rfl ?_
  obtain ⟨v2, e1, h⟩ := ob h
  refine jm_Vi hκ C (mt_m_isSet hκ G e1) hG_m_isSet hy_m_isSet rfl rfl dX2_leftOut_2 (jfit.of (Nat.le_of_ble_eq_true rfl) (by decide) (Nat.zero_le _) (Nat.zero_le _) (Nat.le_of_ble_eq_true rfl)) rfl ?_
  refine j_if_eq C dX2_leftOut_5 (tgt := 17) (by decide) (fun c => ?_) (fun c => ?_)
  · replace h := ip c h
    refine j_iconst C (v := (-1)) dX2_leftOut_17 rfl ?_
    obtain ⟨rfl, rfl⟩ := sp2 h
    exact j_iret C dX2_leftOut_18 (Nat.zero_le _) (Nat.zero_le _) ⟨rfl, rfl⟩
  replace h := im c h
  refine j_iload_n C dX2_leftOut_8 rfl rfl ?_
  refine j_iconst C (v := 0) dX2_leftOut_9 rfl ?_
  refine j_iconst C (v := 1) dX2_leftOut_10 rfl ?_
  obtain ⟨v4, e3, h⟩ := ob h
  refine j_Si hκ.1 C (mt_m_within hκ e3) hG_m_within hy_m_within rfl dX2_leftOut_11 (jfit.of (Nat.le_of_ble_eq_true rfl) (by decide) (Nat.zero_le _) (Nat.zero_le _) (Nat.le_of_ble_eq_true rfl)) rfl ?_
  refine j_if_ne C dX2_leftOut_14 (tgt := 19) (by decide) (fun c => ?_) (fun c => ?_)
  · replace h := im c h
    refine j_iload_n C dX2_leftOut_19 rfl rfl ?_
    obtain ⟨v6, e5, h⟩ := ob h
    refine j_Si hκ.1 C (mt_j_bitCount hκ e5) hG_j_bitCount_m hy_j_bitCount rfl dX2_leftOut_20 (jfit.of (Nat.le_of_ble_eq_true rfl) (by decide) (Nat.zero_le _) (Nat.zero_le _) (Nat.le_of_ble_eq_true rfl)) rfl ?_
    refine j_bipush C (v := 7) dX2_leftOut_23 rfl ?_
    refine j_icmp_le C dX2_leftOut_25 (tgt := 31) (by decide) (fun c => ?_) (fun c => ?_)
    · replace h := ip c h
      refine j_bipush C (v := (-2)) dX2_leftOut_31 rfl ?_
      refine j_istore_n C dX2_leftOut_33 rfl (by decide) rfl ?_
      refine j_bipush C (v := (-2)) dX2_leftOut_34 rfl ?_
      refine j_istore C dX2_leftOut_36 (by decide) rfl ?_
      refine j_iconst C (v := 0) dX2_leftOut_38 rfl ?_
      refine j_istore C dX2_leftOut_39 (by decide) rfl ?_
      exact j_sub (wm_leftOut_b41 hκ N C _ _ N _ _ _ _ h) ⟨rfl, ⟨rfl, ⟨rfl, ⟨rfl, ⟨rfl, ⟨rfl, trivial⟩⟩⟩⟩⟩⟩
    replace h := im c h
    refine j_bipush C (v := (-5)) dX2_leftOut_28 rfl ?_
    obtain ⟨rfl, rfl⟩ := sp2 h
    exact j_iret C dX2_leftOut_30 (Nat.zero_le _) (Nat.zero_le _) ⟨rfl, rfl⟩
  replace h := ip c h
  refine j_iconst C (v := (-1)) dX2_leftOut_17 rfl ?_
  obtain ⟨rfl, rfl⟩ := sp2 h
  exact j_iret C dX2_leftOut_18 (Nat.zero_le _) (Nat.zero_le _) ⟨rfl, rfl⟩
/-! thiefAt -/
def m_thiefAt_b34 (N : Nat) (T : MS) (l1 : Int32) (l3 : Int32) (l5 : Int32) (k6 : Int32 → Int32 → Option Int32) (s1 : Int32) : Option Int32 :=
  (if s1 = l3 then
  some ((l5 - l3) + 1)
  else
  nm (l5 + 1) fun x1 =>
  k6 s1 x1)
theorem wm_thiefAt_b34 {κ : jK} (hκ : jStd κ) (N : Nat) {Γ : jG} (C : jC κ Γ cX2_thiefAt 6 RX2 (some .int)) {G : Nat → Nat} {T : MS} (l1 : Int32) (l3 : Int32) (l5 : Int32) (k6 : Int32 → Int32 → Option Int32) {v : Int32} (hk6 : ∀ (l4 : Int32) (l5 : Int32), k6 l4 l5 = some v → J κ Γ (2, 0, 0, (fun u w' => u = some (.int v) ∧ w' = wM κ G T)) 6 (wM κ G T) 0 0 6 [some (.ref (G 0)), some (.int l1), none, some (.int l3), some (.int l4), some (.int l5)] []) : ∀ (s1 : Int32), m_thiefAt_b34 N T l1 l3 l5 k6 s1 = some v → J κ Γ (2, 0, 0, (fun u w' => u = some (.int v) ∧ w' = wM κ G T)) 6 (wM κ G T) 0 0 34 [some (.ref (G 0)), some (.int l1), none, some (.int l3), none, some (.int l5)] [.int s1] := by
  intro s1 h
  rw [m_thiefAt_b34] at h
  refine j_istore C dX2_thiefAt_34 (by decide) rfl ?_
  refine j_iload C dX2_thiefAt_36 rfl ?_
  refine j_iload_n C dX2_thiefAt_38 rfl rfl ?_
  refine j_icmp_ne C dX2_thiefAt_39 (tgt := 49) (by decide) (fun c => ?_) (fun c => ?_)
  · replace h := im c h
    refine j_iincN C h dX2_thiefAt_49 rfl rfl (by decide) rfl (fun x1 h => ?_)
    refine j_goto C dX2_thiefAt_52 (tgt := 6) (by decide) ?_
    exact j_sub (hk6 _ _ h) ⟨rfl, ⟨rfl, ⟨rfl, ⟨rfl, ⟨rfl, trivial⟩⟩⟩⟩⟩
  replace h := ip c h
  refine j_iload C dX2_thiefAt_42 rfl ?_
  refine j_iload_n C dX2_thiefAt_44 rfl rfl ?_
  refine j_isub C dX2_thiefAt_45 ?_
  refine j_iconst C (v := 1) dX2_thiefAt_46 rfl ?_
  refine j_iadd C dX2_thiefAt_47 ?_
  obtain rfl := sp1 h
  exact j_iret C dX2_thiefAt_48 (Nat.zero_le _) (Nat.zero_le _) ⟨rfl, rfl⟩
def m_thiefAt_b6 (N : Nat) (T : MS) (l1 : Int32) (l3 : Int32) : Nat → Int32 → Int32 → Option Int32
  | 0, _, _ => none
  | n + 1, l4, l5 =>
    (if (999 + l3) ≤ l5 then
    some (-2)
    else
    (m_isSeen T l1 l5).bind fun v2 =>
    (if (b2i v2) = 0 then
    m_thiefAt_b34 N T l1 l3 l5 (fun y4 y5 => m_thiefAt_b6 N T l1 l3 n y4 y5) (l4 + 1)
    else
    m_thiefAt_b34 N T l1 l3 l5 (fun y4 y5 => m_thiefAt_b6 N T l1 l3 n y4 y5) 0))
theorem wm_thiefAt_b6 {κ : jK} (hκ : jStd κ) (N : Nat) {Γ : jG} (C : jC κ Γ cX2_thiefAt 6 RX2 (some .int)) {G : Nat → Nat} {T : MS} (l1 : Int32) (l3 : Int32) {v : Int32} : ∀ (n : Nat) (l4 : Int32) (l5 : Int32), m_thiefAt_b6 N T l1 l3 n l4 l5 = some v → J κ Γ (2, 0, 0, (fun u w' => u = some (.int v) ∧ w' = wM κ G T)) 6 (wM κ G T) 0 0 6 [some (.ref (G 0)), some (.int l1), none, some (.int l3), some (.int l4), some (.int l5)] [] := by
  intro n
  induction n with
  | zero => intro _ _ h; cases h
  | succ n ih =>
    intro l4 l5 h
    rw [m_thiefAt_b6] at h
    refine j_iload C dX2_thiefAt_6 rfl ?_
    refine j_sipush C (v := 999) dX2_thiefAt_8 rfl ?_
    refine j_iload_n C dX2_thiefAt_11 rfl rfl ?_
    refine j_iadd C dX2_thiefAt_12 ?_
    refine j_icmp_ge C dX2_thiefAt_13 (tgt := 55) (by decide) (fun c => ?_) (fun c => ?_)
    · replace h := ip c h
      refine j_bipush C (v := (-2)) dX2_thiefAt_55 rfl ?_
      obtain rfl := sp1 h
      exact j_iret C dX2_thiefAt_57 (Nat.zero_le _) (Nat.zero_le _) ⟨rfl, rfl⟩
    replace h := im c h
    refine j_aload_n C dX2_thiefAt_16 rfl rfl ?_
    refine j_iload_n C dX2_thiefAt_17 rfl rfl ?_
    refine j_iload C dX2_thiefAt_18 rfl ?_
    obtain ⟨v2, e1, h⟩ := ob h
    refine jm_Vi hκ C (mt_m_isSeen hκ G e1) hG_m_isSeen hy_m_isSeen rfl rfl dX2_thiefAt_20 (jfit.of (Nat.le_of_ble_eq_true rfl) (by decide) (Nat.zero_le _) (Nat.zero_le _) (Nat.le_of_ble_eq_true rfl)) rfl ?_
    refine j_if_eq C dX2_thiefAt_23 (tgt := 30) (by decide) (fun c => ?_) (fun c => ?_)
    · replace h := ip c h
      refine j_iload C dX2_thiefAt_30 rfl ?_
      refine j_iconst C (v := 1) dX2_thiefAt_32 rfl ?_
      refine j_iadd C dX2_thiefAt_33 ?_
      exact j_sub (wm_thiefAt_b34 hκ N C _ _ _ _ (fun _ _ h => ih _ _ h) _ h) ⟨rfl, ⟨rfl, ⟨rfl, ⟨rfl, trivial⟩⟩⟩⟩
    replace h := im c h
    refine j_iconst C (v := 0) dX2_thiefAt_26 rfl ?_
    refine j_goto C dX2_thiefAt_27 (tgt := 34) (by decide) ?_
    exact j_sub (wm_thiefAt_b34 hκ N C _ _ _ _ (fun _ _ h => ih _ _ h) _ h) ⟨rfl, ⟨rfl, ⟨rfl, ⟨rfl, trivial⟩⟩⟩⟩
def m_thiefAt (N : Nat) (T : MS) (p1 : Int32) (p2 : Int32) (p3 : Int32) : Option Int32 :=
  m_thiefAt_b6 N T p1 p3 N 0 p2
theorem mt_m_thiefAt {κ : jK} (hκ : jStd κ) (N : Nat) (G : Nat → Nat) {T : MS} {p1 : Int32} {p2 : Int32} {p3 : Int32} {v : Int32} (h : m_thiefAt N T p1 p2 p3 = some v) : jM κ yX2_thiefAt (ws_ yX2_thiefAt cX2_thiefAt 6 (some .int)) 2 0 0 [.ref (G 0), .int p1, .int p2, .int p3] (wM κ G T) (fun u w' => u = some (.int v) ∧ w' = wM κ G T) := by
  rw [m_thiefAt] at h
  refine jM.of (by decide) rfl (Nat.le_of_ble_eq_true rfl) fun Γ C _ => ?_
  show J κ Γ (2, 0, 0, (fun u w' => u = some (.int v) ∧ w' = wM κ G T)) 6 (wM κ G T) 0 0 0 [some (.ref (G 0)), some (.int p1), some (.int p2), some (.int p3), none, none] []
  refine j_iconst C (v := 0) dX2_thiefAt_0 rfl ?_
  refine j_istore C dX2_thiefAt_1 (by decide) rfl ?_
  refine j_iload_n C dX2_thiefAt_3 rfl rfl ?_
  refine j_istore C dX2_thiefAt_4 (by decide) rfl ?_
  exact j_sub (wm_thiefAt_b6 hκ N C _ _ N _ _ h) ⟨rfl, ⟨rfl, ⟨rfl, ⟨rfl, ⟨rfl, trivial⟩⟩⟩⟩⟩
/-! thief -/
def m_thief (N : Nat) (T : MS) (p1 : Int32) (p2 : Int32) (p3 : Int32) (p4 : Int32) : Option (Int32 × MS) :=
  (m_isShelf p1).bind fun v2 =>
  (if (b2i v2) = 0 then
  some ((-1), T)
  else
  (m_isPost T p2.toInt64).bind fun v4 =>
  (if (b2i v4) = 0 then
  some ((-1), T)
  else
  (m_isMinute p3).bind fun v6 =>
  (if (b2i v6) = 0 then
  some ((-1), T)
  else
  (m_within p4 1 99).bind fun v8 =>
  (if (b2i v8) = 0 then
  some ((-1), T)
  else
  (m_noRow T p1 0).bind fun v10 =>
  (if 0 ≤ v10 then
  (m_reads N T p1).bind fun T13 =>
  (m_looks N T13).bind fun T16 =>
  (m_thiefAt N T16 p2 p3 p4).bind fun v18 =>
  some (v18, T16)
  else
  some (v10, T))))))
theorem mt_m_thief {κ : jK} (hκ : jStd κ) (N : Nat) (G : Nat → Nat) {T : MS} {p1 : Int32} {p2 : Int32} {p3 : Int32} {p4 : Int32} {v : Int32} {T' : MS} (h : m_thief N T p1 p2 p3 p4 = some (v, T')) : jM κ yX2_thief (ws_ yX2_thief cX2_thief 6 (some .int)) 5 0 0 [.ref (G 0), .int p1, .int p2, .int p3, .int p4] (wM κ G T) (fun u w' => u = some (.int v) ∧ w' = wM κ G T') := by
  rw [m_thief] at h
  refine jM.of (by decide) rfl (Nat.le_of_ble_eq_true rfl) fun Γ C _ => ?_
  show J κ Γ (5, 0, 0, (fun u w' => u = some (.int v) ∧ w' = wM κ G T')) 6 (wM κ G T) 0 0 0 [some (.ref (G 0)), some (.int p1), some (.int p2), some (.int p3), some (.int p4), none] []
  refine j_iload_n C dX2_thief_0 rfl rfl ?_
  obtain ⟨v2, e1, h⟩ := ob h
  refine j_Si hκ.1 C (mt_m_isShelf hκ e1) hG_m_isShelf hy_m_isShelf rfl dX2_thief_1 (jfit.of (Nat.le_of_ble_eq_true rfl) (by decide) (Nat.zero_le _) (Nat.zero_le _) (Nat.le_of_ble_eq_true rfl)) rfl ?_
  refine j_if_eq C dX2_thief_4 (tgt := 34) (by decide) (fun c => ?_) (fun c => ?_)
  · replace h := ip c h
    refine j_iconst C (v := (-1)) dX2_thief_34 rfl ?_
    obtain ⟨rfl, rfl⟩ := sp2 h
    exact j_iret C dX2_thief_35 (Nat.zero_le _) (Nat.zero_le _) ⟨rfl, rfl⟩
  replace h := im c h
  refine j_aload_n C dX2_thief_7 rfl rfl ?_
  refine j_iload_n C dX2_thief_8 rfl rfl ?_
  refine j_i2l C dX2_thief_9 ?_
  obtain ⟨v4, e3, h⟩ := ob h
  refine jm_Vi hκ C (mt_m_isPost hκ G e3) hG_m_isPost hy_m_isPost rfl rfl dX2_thief_10 (jfit.of (Nat.le_of_ble_eq_true rfl) (by decide) (Nat.zero_le _) (Nat.zero_le _) (Nat.le_of_ble_eq_true rfl)) rfl ?_
  refine j_if_eq C dX2_thief_13 (tgt := 34) (by decide) (fun c => ?_) (fun c => ?_)
  · replace h := ip c h
    refine j_iconst C (v := (-1)) dX2_thief_34 rfl ?_
    obtain ⟨rfl, rfl⟩ := sp2 h
    exact j_iret C dX2_thief_35 (Nat.zero_le _) (Nat.zero_le _) ⟨rfl, rfl⟩
  replace h := im c h
  refine j_iload_n C dX2_thief_16 rfl rfl ?_
  obtain ⟨v6, e5, h⟩ := ob h
  refine j_Si hκ.1 C (mt_m_isMinute hκ e5) hG_m_isMinute hy_m_isMinute rfl dX2_thief_17 (jfit.of (Nat.le_of_ble_eq_true rfl) (by decide) (Nat.zero_le _) (Nat.zero_le _) (Nat.le_of_ble_eq_true rfl)) rfl ?_
  refine j_if_eq C dX2_thief_20 (tgt := 34) (by decide) (fun c => ?_) (fun c => ?_)
  · replace h := ip c h
    refine j_iconst C (v := (-1)) dX2_thief_34 rfl ?_
    obtain ⟨rfl, rfl⟩ := sp2 h
    exact j_iret C dX2_thief_35 (Nat.zero_le _) (Nat.zero_le _) ⟨rfl, rfl⟩
  replace h := im c h
  refine j_iload C dX2_thief_23 rfl ?_
  refine j_iconst C (v := 1) dX2_thief_25 rfl ?_
  refine j_bipush C (v := 99) dX2_thief_26 rfl ?_
  obtain ⟨v8, e7, h⟩ := ob h
  refine j_Si hκ.1 C (mt_m_within hκ e7) hG_m_within hy_m_within rfl dX2_thief_28 (jfit.of (Nat.le_of_ble_eq_true rfl) (by decide) (Nat.zero_le _) (Nat.zero_le _) (Nat.le_of_ble_eq_true rfl)) rfl ?_
  refine j_if_ne C dX2_thief_31 (tgt := 36) (by decide) (fun c => ?_) (fun c => ?_)
  · replace h := im c h
    refine j_aload_n C dX2_thief_36 rfl rfl ?_
    refine j_iload_n C dX2_thief_37 rfl rfl ?_
    refine j_iconst C (v := 0) dX2_thief_38 rfl ?_
    obtain ⟨v10, e9, h⟩ := ob h
    refine jm_Vi hκ C (mt_m_noRow hκ G e9) hG_m_noRow hy_m_noRow rfl rfl dX2_thief_39 (jfit.of (Nat.le_of_ble_eq_true rfl) (by decide) (Nat.zero_le _) (Nat.zero_le _) (Nat.le_of_ble_eq_true rfl)) rfl ?_
    refine j_istore C dX2_thief_42 (by decide) rfl ?_
    refine j_iload C dX2_thief_44 rfl ?_
    refine j_if_ge C dX2_thief_46 (tgt := 52) (by decide) (fun c => ?_) (fun c => ?_)
    · replace h := ip c h
      refine j_aload_n C dX2_thief_52 rfl rfl ?_
      refine j_iload_n C dX2_thief_53 rfl rfl ?_
      obtain ⟨T13, e11, h⟩ := ob h
      refine jm_Vv hκ C (mt_m_reads hκ N G e11) hG_m_reads hy_m_reads rfl rfl dX2_thief_54 (jfit.of (Nat.le_of_ble_eq_true rfl) (by decide) (Nat.zero_le _) (Nat.zero_le _) (Nat.le_of_ble_eq_true rfl)) rfl ?_
      refine j_aload_n C dX2_thief_57 rfl rfl ?_
      obtain ⟨T16, e14, h⟩ := ob h
      refine jm_Vv hκ C (mt_m_looks hκ N G e14) hG_m_looks hy_m_looks rfl rfl dX2_thief_58 (jfit.of (Nat.le_of_ble_eq_true rfl) (by decide) (Nat.zero_le _) (Nat.zero_le _) (Nat.le_of_ble_eq_true rfl)) rfl ?_
      refine j_aload_n C dX2_thief_61 rfl rfl ?_
      refine j_iload_n C dX2_thief_62 rfl rfl ?_
      refine j_iload_n C dX2_thief_63 rfl rfl ?_
      refine j_iload C dX2_thief_64 rfl ?_
      obtain ⟨v18, e17, h⟩ := ob h
      refine jm_Vi hκ C (mt_m_thiefAt hκ N G e17) hG_m_thiefAt hy_m_thiefAt rfl rfl dX2_thief_66 (jfit.of (Nat.le_of_ble_eq_true rfl) (by decide) (Nat.zero_le _) (Nat.zero_le _) (Nat.le_of_ble_eq_true rfl)) rfl ?_
      obtain ⟨rfl, rfl⟩ := sp2 h
      exact j_iret C dX2_thief_69 (Nat.zero_le _) (Nat.zero_le _) ⟨rfl, rfl⟩
    replace h := im c h
    refine j_iload C dX2_thief_49 rfl ?_
    obtain ⟨rfl, rfl⟩ := sp2 h
    exact j_iret C dX2_thief_51 (Nat.zero_le _) (Nat.zero_le _) ⟨rfl, rfl⟩
  replace h := ip c h
  refine j_iconst C (v := (-1)) dX2_thief_34 rfl ?_
  obtain ⟨rfl, rfl⟩ := sp2 h
  exact j_iret C dX2_thief_35 (Nat.zero_le _) (Nat.zero_le _) ⟨rfl, rfl⟩
/-! safe -/
def m_safe_b47 (N : Nat) (l2 : Int32) : Nat → MS → Int32 → Int32 → Option (Int32 × MS)
  | 0, _, _, _ => none
  | n + 1, T, l4, l5 =>
    (if (T.1 0) ≤ l5 then
    some (l4, T)
    else
    (m_thiefAt N T l5 0 l2).bind fun v2 =>
    (if v2 = (-2) then
    nm (l4 ||| (1 <<< (l5 &&& 31))) fun x4 =>
    nm (l5 + 1) fun x5 =>
    m_safe_b47 N l2 n T x4 x5
    else
    nm (l5 + 1) fun x3 =>
    m_safe_b47 N l2 n T l4 x3))
theorem wm_safe_b47 {κ : jK} (hκ : jStd κ) (N : Nat) {Γ : jG} (C : jC κ Γ cX2_safe 6 RX2 (some .int)) {G : Nat → Nat} (l2 : Int32) {v : Int32} {T' : MS} : ∀ (n : Nat) (T : MS) (l4 : Int32) (l5 : Int32), m_safe_b47 N l2 n T l4 l5 = some (v, T') → J κ Γ (5, 0, 0, (fun u w' => u = some (.int v) ∧ w' = wM κ G T')) 6 (wM κ G T) 0 0 47 [some (.ref (G 0)), none, some (.int l2), none, some (.int l4), some (.int l5)] [] := by
  intro n
  induction n with
  | zero => intro _ _ _ h; cases h
  | succ n ih =>
    intro T l4 l5 h
    rw [m_safe_b47] at h
    refine j_iload C dX2_safe_47 rfl ?_
    refine j_aload_n C dX2_safe_49 rfl rfl ?_
    refine jm_geti hκ C 0 (by decide) rfl q1637 dX2_safe_50 ?_
    refine j_icmp_ge C dX2_safe_53 (tgt := 84) (by decide) (fun c => ?_) (fun c => ?_)
    · replace h := ip c h
      refine j_iload C dX2_safe_84 rfl ?_
      obtain ⟨rfl, rfl⟩ := sp2 h
      exact j_iret C dX2_safe_86 (Nat.zero_le _) (Nat.zero_le _) ⟨rfl, rfl⟩
    replace h := im c h
    refine j_aload_n C dX2_safe_56 rfl rfl ?_
    refine j_iload C dX2_safe_57 rfl ?_
    refine j_iconst C (v := 0) dX2_safe_59 rfl ?_
    refine j_iload_n C dX2_safe_60 rfl rfl ?_
    obtain ⟨v2, e1, h⟩ := ob h
    refine jm_Vi hκ C (mt_m_thiefAt hκ N G e1) hG_m_thiefAt hy_m_thiefAt rfl rfl dX2_safe_61 (jfit.of (Nat.le_of_ble_eq_true rfl) (by decide) (Nat.zero_le _) (Nat.zero_le _) (Nat.le_of_ble_eq_true rfl)) rfl ?_
    refine j_bipush C (v := (-2)) dX2_safe_64 rfl ?_
    refine j_icmp_ne C dX2_safe_66 (tgt := 78) (by decide) (fun c => ?_) (fun c => ?_)
    · replace h := im c h
      refine j_iincN C h dX2_safe_78 rfl rfl (by decide) rfl (fun x3 h => ?_)
      refine j_goto C dX2_safe_81 (tgt := 47) (by decide) ?_
      exact j_sub (ih _ _ _ h) ⟨rfl, ⟨rfl, ⟨rfl, ⟨rfl, trivial⟩⟩⟩⟩
    replace h := ip c h
    refine j_iload C dX2_safe_69 rfl ?_
    refine j_iconst C (v := 1) dX2_safe_71 rfl ?_
    refine j_iload C dX2_safe_72 rfl ?_
    refine j_ishl C dX2_safe_74 ?_
    refine j_ior C dX2_safe_75 ?_
    refine j_nmI h (fun x4 h => ?_)
    refine j_istore C dX2_safe_76 (by decide) rfl ?_
    refine j_iincN C h dX2_safe_78 rfl rfl (by decide) rfl (fun x5 h => ?_)
    refine j_goto C dX2_safe_81 (tgt := 47) (by decide) ?_
    exact j_sub (ih _ _ _ h) ⟨rfl, ⟨rfl, ⟨rfl, ⟨rfl, trivial⟩⟩⟩⟩
def m_safe (N : Nat) (T : MS) (p1 : Int32) (p2 : Int32) : Option (Int32 × MS) :=
  (m_isShelf p1).bind fun v2 =>
  (if (b2i v2) = 0 then
  some ((-1), T)
  else
  (m_within p2 1 99).bind fun v4 =>
  (if (b2i v4) = 0 then
  some ((-1), T)
  else
  (m_noRow T p1 0).bind fun v6 =>
  (if 0 ≤ v6 then
  (m_reads N T p1).bind fun T9 =>
  (m_looks N T9).bind fun T12 =>
  m_safe_b47 N p2 N T12 0 0
  else
  some (v6, T))))
theorem mt_m_safe {κ : jK} (hκ : jStd κ) (N : Nat) (G : Nat → Nat) {T : MS} {p1 : Int32} {p2 : Int32} {v : Int32} {T' : MS} (h : m_safe N T p1 p2 = some (v, T')) : jM κ yX2_safe (ws_ yX2_safe cX2_safe 6 (some .int)) 5 0 0 [.ref (G 0), .int p1, .int p2] (wM κ G T) (fun u w' => u = some (.int v) ∧ w' = wM κ G T') := by
  rw [m_safe] at h
  refine jM.of (by decide) rfl (Nat.le_of_ble_eq_true rfl) fun Γ C _ => ?_
  show J κ Γ (5, 0, 0, (fun u w' => u = some (.int v) ∧ w' = wM κ G T')) 6 (wM κ G T) 0 0 0 [some (.ref (G 0)), some (.int p1), some (.int p2), none, none, none] []
  refine j_iload_n C dX2_safe_0 rfl rfl ?_
  obtain ⟨v2, e1, h⟩ := ob h
  refine j_Si hκ.1 C (mt_m_isShelf hκ e1) hG_m_isShelf hy_m_isShelf rfl dX2_safe_1 (jfit.of (Nat.le_of_ble_eq_true rfl) (by decide) (Nat.zero_le _) (Nat.zero_le _) (Nat.le_of_ble_eq_true rfl)) rfl ?_
  refine j_if_eq C dX2_safe_4 (tgt := 17) (by decide) (fun c => ?_) (fun c => ?_)
  · replace h := ip c h
    refine j_iconst C (v := (-1)) dX2_safe_17 rfl ?_
    obtain ⟨rfl, rfl⟩ := sp2 h
    exact j_iret C dX2_safe_18 (Nat.zero_le _) (Nat.zero_le _) ⟨rfl, rfl⟩
  replace h := im c h
  refine j_iload_n C dX2_safe_7 rfl rfl ?_
  refine j_iconst C (v := 1) dX2_safe_8 rfl ?_
  refine j_bipush C (v := 99) dX2_safe_9 rfl ?_
  obtain ⟨v4, e3, h⟩ := ob h
  refine j_Si hκ.1 C (mt_m_within hκ e3) hG_m_within hy_m_within rfl dX2_safe_11 (jfit.of (Nat.le_of_ble_eq_true rfl) (by decide) (Nat.zero_le _) (Nat.zero_le _) (Nat.le_of_ble_eq_true rfl)) rfl ?_
  refine j_if_ne C dX2_safe_14 (tgt := 19) (by decide) (fun c => ?_) (fun c => ?_)
  · replace h := im c h
    refine j_aload_n C dX2_safe_19 rfl rfl ?_
    refine j_iload_n C dX2_safe_20 rfl rfl ?_
    refine j_iconst C (v := 0) dX2_safe_21 rfl ?_
    obtain ⟨v6, e5, h⟩ := ob h
    refine jm_Vi hκ C (mt_m_noRow hκ G e5) hG_m_noRow hy_m_noRow rfl rfl dX2_safe_22 (jfit.of (Nat.le_of_ble_eq_true rfl) (by decide) (Nat.zero_le _) (Nat.zero_le _) (Nat.le_of_ble_eq_true rfl)) rfl ?_
    refine j_istore_n C dX2_safe_25 rfl (by decide) rfl ?_
    refine j_iload_n C dX2_safe_26 rfl rfl ?_
    refine j_if_ge C dX2_safe_27 (tgt := 32) (by decide) (fun c => ?_) (fun c => ?_)
    · replace h := ip c h
      refine j_aload_n C dX2_safe_32 rfl rfl ?_
      refine j_iload_n C dX2_safe_33 rfl rfl ?_
      obtain ⟨T9, e7, h⟩ := ob h
      refine jm_Vv hκ C (mt_m_reads hκ N G e7) hG_m_reads hy_m_reads rfl rfl dX2_safe_34 (jfit.of (Nat.le_of_ble_eq_true rfl) (by decide) (Nat.zero_le _) (Nat.zero_le _) (Nat.le_of_ble_eq_true rfl)) rfl ?_
      refine j_aload_n C dX2_safe_37 rfl rfl ?_
      obtain ⟨T12, e10, h⟩ := ob h
      refine jm_Vv hκ C (mt_m_looks hκ N G e10) hG_m_looks hy_m_looks rfl rfl dX2_safe_38 (jfit.of (Nat.le_of_ble_eq_true rfl) (by decide) (Nat.zero_le _) (Nat.zero_le _) (Nat.le_of_ble_eq_true rfl)) rfl ?_
      refine j_iconst C (v := 0) dX2_safe_41 rfl ?_
      refine j_istore C dX2_safe_42 (by decide) rfl ?_
      refine j_iconst C (v := 0) dX2_safe_44 rfl ?_
      refine j_istore C dX2_safe_45 (by decide) rfl ?_
      exact j_sub (wm_safe_b47 hκ N C _ N _ _ _ h) ⟨rfl, ⟨rfl, ⟨rfl, ⟨rfl, trivial⟩⟩⟩⟩
    replace h := im c h
    refine j_iload_n C dX2_safe_30 rfl rfl ?_
    obtain ⟨rfl, rfl⟩ := sp2 h
    exact j_iret C dX2_safe_31 (Nat.zero_le _) (Nat.zero_le _) ⟨rfl, rfl⟩
  replace h := ip c h
  refine j_iconst C (v := (-1)) dX2_safe_17 rfl ?_
  obtain ⟨rfl, rfl⟩ := sp2 h
  exact j_iret C dX2_safe_18 (Nat.zero_le _) (Nat.zero_le _) ⟨rfl, rfl⟩
/-! twoOf -/
def m_twoOf_b118 (N : Nat) : Nat → MS → Int32 → Int32 → Int32 → Int32 → Option (Int32 × MS)
  | 0, _, _, _, _, _ => none
  | n + 1, T, l3, l4, l5, l6 =>
    (if 1000 ≤ l6 then
    (if 2 ≤ l3 then
    some (l5, T)
    else
    some ((-2), T))
    else
    chk 1000 l6 (
    (if (T.2.1 51 l6.toNatClampNeg) = 0 then
    nm (l6 + 1) fun x7 =>
    m_twoOf_b118 N n T l3 l4 l5 x7
    else
    chk 1000 l6 (
    nm (l3 + (T.2.1 51 l6.toNatClampNeg)) fun x3 =>
    (if l4 < 0 then
    nm (l6 + 1) fun x4 =>
    m_twoOf_b118 N n T x3 l6 l5 x4
    else
    nm (jmax l5 (l6 - l4)) fun x5 =>
    nm (l6 + 1) fun x6 =>
    m_twoOf_b118 N n T x3 l6 x5 x6)))))
theorem wm_twoOf_b118 {κ : jK} (hκ : jStd κ) (N : Nat) {Γ : jG} (C : jC κ Γ cX2_twoOf 7 RX2 (some .int)) {G : Nat → Nat}  {v : Int32} {T' : MS} : ∀ (n : Nat) (T : MS) (l3 : Int32) (l4 : Int32) (l5 : Int32) (l6 : Int32), m_twoOf_b118 N n T l3 l4 l5 l6 = some (v, T') → J κ Γ (1, 0, 0, (fun u w' => u = some (.int v) ∧ w' = wM κ G T')) 7 (wM κ G T) 0 0 118 [some (.ref (G 0)), none, none, some (.int l3), some (.int l4), some (.int l5), some (.int l6)] [] := by
  intro n
  induction n with
  | zero => intro _ _ _ _ _ h; cases h
  | succ n ih =>
    intro T l3 l4 l5 l6 h
    rw [m_twoOf_b118] at h
    refine j_iload C dX2_twoOf_118 rfl ?_
    refine j_sipush C (v := 1000) dX2_twoOf_120 rfl ?_
    refine j_icmp_ge C dX2_twoOf_123 (tgt := 176) (by decide) (fun c => ?_) (fun c => ?_)
    · replace h := ip c h
      refine j_iload_n C dX2_twoOf_176 rfl rfl ?_
      refine j_iconst C (v := 2) dX2_twoOf_177 rfl ?_
      refine j_icmp_ge C dX2_twoOf_178 (tgt := 186) (by decide) (fun c => ?_) (fun c => ?_)
      · replace h := ip c h
        refine j_iload C dX2_twoOf_186 rfl ?_
        obtain ⟨rfl, rfl⟩ := sp2 h
        exact j_iret C dX2_twoOf_188 (Nat.zero_le _) (Nat.zero_le _) ⟨rfl, rfl⟩
      replace h := im c h
      refine j_bipush C (v := (-2)) dX2_twoOf_181 rfl ?_
      refine j_goto C dX2_twoOf_183 (tgt := 188) (by decide) ?_
      obtain ⟨rfl, rfl⟩ := sp2 h
      exact j_iret C dX2_twoOf_188 (Nat.zero_le _) (Nat.zero_le _) ⟨rfl, rfl⟩
    replace h := im c h
    refine j_aload_n C dX2_twoOf_126 rfl rfl ?_
    refine jm_geta hκ C 51 (by decide) rfl q1688 dX2_twoOf_127 ?_
    refine j_iload C dX2_twoOf_130 rfl ?_
    obtain ⟨b1, h⟩ := chk_some h
    refine jm_iald hκ C 51 rfl b1 dX2_twoOf_132 ?_
    refine j_if_ne C dX2_twoOf_133 (tgt := 139) (by decide) (fun c => ?_) (fun c => ?_)
    · replace h := im c h
      refine j_iload_n C dX2_twoOf_139 rfl rfl ?_
      refine j_aload_n C dX2_twoOf_140 rfl rfl ?_
      refine jm_geta hκ C 51 (by decide) rfl q1688 dX2_twoOf_141 ?_
      refine j_iload C dX2_twoOf_144 rfl ?_
      obtain ⟨b2, h⟩ := chk_some h
      refine jm_iald hκ C 51 rfl b2 dX2_twoOf_146 ?_
      refine j_iadd C dX2_twoOf_147 ?_
      refine j_nmI h (fun x3 h => ?_)
      refine j_istore_n C dX2_twoOf_148 rfl (by decide) rfl ?_
      refine j_iload C dX2_twoOf_149 rfl ?_
      refine j_if_lt C dX2_twoOf_151 (tgt := 166) (by decide) (fun c => ?_) (fun c => ?_)
      · replace h := ip c h
        refine j_iload C dX2_twoOf_166 rfl ?_
        refine j_istore C dX2_twoOf_168 (by decide) rfl ?_
        refine j_iincN C h dX2_twoOf_170 rfl rfl (by decide) rfl (fun x4 h => ?_)
        refine j_goto C dX2_twoOf_173 (tgt := 118) (by decide) ?_
        exact j_sub (ih _ _ _ _ _ h) ⟨rfl, ⟨rfl, ⟨rfl, ⟨rfl, ⟨rfl, trivial⟩⟩⟩⟩⟩
      replace h := im c h
      refine j_iload C dX2_twoOf_154 rfl ?_
      refine j_iload C dX2_twoOf_156 rfl ?_
      refine j_iload C dX2_twoOf_158 rfl ?_
      refine j_isub C dX2_twoOf_160 ?_
      refine j_mmax C dX2_twoOf_161 q1977 q695 q129 q696 (Nat.le_of_ble_eq_true rfl) (Nat.le_of_ble_eq_true rfl) (Nat.zero_le _) (Nat.zero_le _) ?_
      refine j_nmI h (fun x5 h => ?_)
      refine j_istore C dX2_twoOf_164 (by decide) rfl ?_
      refine j_iload C dX2_twoOf_166 rfl ?_
      refine j_istore C dX2_twoOf_168 (by decide) rfl ?_
      refine j_iincN C h dX2_twoOf_170 rfl rfl (by decide) rfl (fun x6 h => ?_)
      refine j_goto C dX2_twoOf_173 (tgt := 118) (by decide) ?_
      exact j_sub (ih _ _ _ _ _ h) ⟨rfl, ⟨rfl, ⟨rfl, ⟨rfl, ⟨rfl, trivial⟩⟩⟩⟩⟩
    replace h := ip c h
    refine j_goto C dX2_twoOf_136 (tgt := 170) (by decide) ?_
    refine j_iincN C h dX2_twoOf_170 rfl rfl (by decide) rfl (fun x7 h => ?_)
    refine j_goto C dX2_twoOf_173 (tgt := 118) (by decide) ?_
    exact j_sub (ih _ _ _ _ _ h) ⟨rfl, ⟨rfl, ⟨rfl, ⟨rfl, ⟨rfl, trivial⟩⟩⟩⟩⟩
def m_twoOf_b78 (N : Nat) (l1 : Int32) (l2 : Int32) (l3 : Int32) (l4 : Int32) (k24 : MS → Int32 → Option (Int32 × MS)) (T : MS) : Option (Int32 × MS) :=
  (if 1000 ≤ (l4 + l2) then
  nm (l3 + 1) fun x1 =>
  k24 T x1
  else
  chk 1000 (l4 + l2) (
  chk 1000 (l4 + l2) (
  nm (sA T 51 (l4 + l2).toNatClampNeg ((T.2.1 51 (l4 + l2).toNatClampNeg) + 1)) fun T3 =>
  nm (l3 + 1) fun x5 =>
  k24 T3 x5)))
theorem wm_twoOf_b78 {κ : jK} (hκ : jStd κ) (N : Nat) {Γ : jG} (C : jC κ Γ cX2_twoOf 7 RX2 (some .int)) {G : Nat → Nat} (l1 : Int32) (l2 : Int32) (l3 : Int32) (l4 : Int32) (k24 : MS → Int32 → Option (Int32 × MS)) {v : Int32} {T' : MS} (hk24 : ∀ (T : MS) (l3 : Int32), k24 T l3 = some (v, T') → J κ Γ (1, 0, 0, (fun u w' => u = some (.int v) ∧ w' = wM κ G T')) 7 (wM κ G T) 0 0 24 [some (.ref (G 0)), some (.int l1), some (.int l2), some (.int l3), none, none, none] []) : ∀ (T : MS), m_twoOf_b78 N l1 l2 l3 l4 k24 T = some (v, T') → J κ Γ (1, 0, 0, (fun u w' => u = some (.int v) ∧ w' = wM κ G T')) 7 (wM κ G T) 0 0 78 [some (.ref (G 0)), some (.int l1), some (.int l2), some (.int l3), some (.int l4), none, none] [] := by
  intro T h
  rw [m_twoOf_b78] at h
  refine j_iload C dX2_twoOf_78 rfl ?_
  refine j_iload_n C dX2_twoOf_80 rfl rfl ?_
  refine j_iadd C dX2_twoOf_81 ?_
  refine j_sipush C (v := 1000) dX2_twoOf_82 rfl ?_
  refine j_icmp_ge C dX2_twoOf_85 (tgt := 101) (by decide) (fun c => ?_) (fun c => ?_)
  · replace h := ip c h
    refine j_iincN C h dX2_twoOf_101 rfl rfl (by decide) rfl (fun x1 h => ?_)
    refine j_goto C dX2_twoOf_104 (tgt := 24) (by decide) ?_
    exact j_sub (hk24 _ _ h) ⟨rfl, ⟨rfl, ⟨rfl, ⟨rfl, trivial⟩⟩⟩⟩
  replace h := im c h
  refine j_aload_n C dX2_twoOf_88 rfl rfl ?_
  refine jm_geta hκ C 51 (by decide) rfl q1688 dX2_twoOf_89 ?_
  refine j_iload C dX2_twoOf_92 rfl ?_
  refine j_iload_n C dX2_twoOf_94 rfl rfl ?_
  refine j_iadd C dX2_twoOf_95 ?_
  refine j_dup2 C dX2_twoOf_96 rfl rfl ?_
  obtain ⟨b2, h⟩ := chk_some h
  refine jm_iald hκ C 51 rfl b2 dX2_twoOf_97 ?_
  refine j_iconst C (v := 1) dX2_twoOf_98 rfl ?_
  refine j_iadd C dX2_twoOf_99 ?_
  obtain ⟨b4, h⟩ := chk_some h
  refine jm_iast hκ C 51 rfl b4 dX2_twoOf_100 ?_
  refine jm_nmT h (fun T3 h => ?_)
  refine j_iincN C h dX2_twoOf_101 rfl rfl (by decide) rfl (fun x5 h => ?_)
  refine j_goto C dX2_twoOf_104 (tgt := 24) (by decide) ?_
  exact j_sub (hk24 _ _ h) ⟨rfl, ⟨rfl, ⟨rfl, ⟨rfl, trivial⟩⟩⟩⟩
def m_twoOf_b24 (N : Nat) (l1 : Int32) (l2 : Int32) : Nat → MS → Int32 → Option (Int32 × MS)
  | 0, _, _ => none
  | n + 1, T, l3 =>
    (if (T.1 46) ≤ l3 then
    m_twoOf_b118 N N T 0 (-1) 0 0
    else
    chk 4000 l3 (
    (if (T.2.1 48 l3.toNatClampNeg) = l1 then
    chk 4000 l3 (
    nm (T.2.1 47 l3.toNatClampNeg) fun x3 =>
    (if x3 < l2 then
    m_twoOf_b78 N l1 l2 l3 x3 (fun t y3 => m_twoOf_b24 N l1 l2 n t y3) T
    else
    (if 1000 ≤ x3 then
    m_twoOf_b78 N l1 l2 l3 x3 (fun t y3 => m_twoOf_b24 N l1 l2 n t y3) T
    else
    chk 1000 x3 (
    chk 1000 x3 (
    nm (sA T 51 x3.toNatClampNeg ((T.2.1 51 x3.toNatClampNeg) + 1)) fun T5 =>
    m_twoOf_b78 N l1 l2 l3 x3 (fun t y3 => m_twoOf_b24 N l1 l2 n t y3) T5)))))
    else
    nm (l3 + 1) fun x7 =>
    m_twoOf_b24 N l1 l2 n T x7)))
theorem wm_twoOf_b24 {κ : jK} (hκ : jStd κ) (N : Nat) {Γ : jG} (C : jC κ Γ cX2_twoOf 7 RX2 (some .int)) {G : Nat → Nat} (l1 : Int32) (l2 : Int32) {v : Int32} {T' : MS} : ∀ (n : Nat) (T : MS) (l3 : Int32), m_twoOf_b24 N l1 l2 n T l3 = some (v, T') → J κ Γ (1, 0, 0, (fun u w' => u = some (.int v) ∧ w' = wM κ G T')) 7 (wM κ G T) 0 0 24 [some (.ref (G 0)), some (.int l1), some (.int l2), some (.int l3), none, none, none] [] := by
  intro n
  induction n with
  | zero => intro _ _ h; cases h
  | succ n ih =>
    intro T l3 h
    rw [m_twoOf_b24] at h
    refine j_iload_n C dX2_twoOf_24 rfl rfl ?_
    refine j_aload_n C dX2_twoOf_25 rfl rfl ?_
    refine jm_geti hκ C 46 (by decide) rfl q1683 dX2_twoOf_26 ?_
    refine j_icmp_ge C dX2_twoOf_29 (tgt := 107) (by decide) (fun c => ?_) (fun c => ?_)
    · replace h := ip c h
      refine j_iconst C (v := 0) dX2_twoOf_107 rfl ?_
      refine j_istore_n C dX2_twoOf_108 rfl (by decide) rfl ?_
      refine j_iconst C (v := (-1)) dX2_twoOf_109 rfl ?_
      refine j_istore C dX2_twoOf_110 (by decide) rfl ?_
      refine j_iconst C (v := 0) dX2_twoOf_112 rfl ?_
      refine j_istore C dX2_twoOf_113 (by decide) rfl ?_
      refine j_iconst C (v := 0) dX2_twoOf_115 rfl ?_
      refine j_istore C dX2_twoOf_116 (by decide) rfl ?_
      exact j_sub (wm_twoOf_b118 hκ N C N _ _ _ _ _ h) ⟨rfl, ⟨rfl, ⟨rfl, ⟨rfl, ⟨rfl, trivial⟩⟩⟩⟩⟩
    replace h := im c h
    refine j_aload_n C dX2_twoOf_32 rfl rfl ?_
    refine jm_geta hκ C 48 (by decide) rfl q1685 dX2_twoOf_33 ?_
    refine j_iload_n C dX2_twoOf_36 rfl rfl ?_
    obtain ⟨b1, h⟩ := chk_some h
    refine jm_iald hκ C 48 rfl b1 dX2_twoOf_37 ?_
    refine j_iload_n C dX2_twoOf_38 rfl rfl ?_
    refine j_icmp_eq C dX2_twoOf_39 (tgt := 45) (by decide) (fun c => ?_) (fun c => ?_)
    · replace h := ip c h
      refine j_aload_n C dX2_twoOf_45 rfl rfl ?_
      refine jm_geta hκ C 47 (by decide) rfl q1684 dX2_twoOf_46 ?_
      refine j_iload_n C dX2_twoOf_49 rfl rfl ?_
      obtain ⟨b2, h⟩ := chk_some h
      refine jm_iald hκ C 47 rfl b2 dX2_twoOf_50 ?_
      refine j_nmI h (fun x3 h => ?_)
      refine j_istore C dX2_twoOf_51 (by decide) rfl ?_
      refine j_iload C dX2_twoOf_53 rfl ?_
      refine j_iload_n C dX2_twoOf_55 rfl rfl ?_
      refine j_icmp_lt C dX2_twoOf_56 (tgt := 78) (by decide) (fun c => ?_) (fun c => ?_)
      · replace h := ip c h
        exact j_sub (wm_twoOf_b78 hκ N C _ _ _ _ _ (fun _ _ h => ih _ _ h) _ h) ⟨rfl, ⟨rfl, ⟨rfl, ⟨rfl, ⟨rfl, trivial⟩⟩⟩⟩⟩
      replace h := im c h
      refine j_iload C dX2_twoOf_59 rfl ?_
      refine j_sipush C (v := 1000) dX2_twoOf_61 rfl ?_
      refine j_icmp_ge C dX2_twoOf_64 (tgt := 78) (by decide) (fun c => ?_) (fun c => ?_)
      · replace h := ip c h
        exact j_sub (wm_twoOf_b78 hκ N C _ _ _ _ _ (fun _ _ h => ih _ _ h) _ h) ⟨rfl, ⟨rfl, ⟨rfl, ⟨rfl, ⟨rfl, trivial⟩⟩⟩⟩⟩
      replace h := im c h
      refine j_aload_n C dX2_twoOf_67 rfl rfl ?_
      refine jm_geta hκ C 51 (by decide) rfl q1688 dX2_twoOf_68 ?_
      refine j_iload C dX2_twoOf_71 rfl ?_
      refine j_dup2 C dX2_twoOf_73 rfl rfl ?_
      obtain ⟨b4, h⟩ := chk_some h
      refine jm_iald hκ C 51 rfl b4 dX2_twoOf_74 ?_
      refine j_iconst C (v := 1) dX2_twoOf_75 rfl ?_
      refine j_iadd C dX2_twoOf_76 ?_
      obtain ⟨b6, h⟩ := chk_some h
      refine jm_iast hκ C 51 rfl b6 dX2_twoOf_77 ?_
      refine jm_nmT h (fun T5 h => ?_)
      exact j_sub (wm_twoOf_b78 hκ N C _ _ _ _ _ (fun _ _ h => ih _ _ h) _ h) ⟨rfl, ⟨rfl, ⟨rfl, ⟨rfl, ⟨rfl, trivial⟩⟩⟩⟩⟩
    replace h := im c h
    refine j_goto C dX2_twoOf_42 (tgt := 101) (by decide) ?_
    refine j_iincN C h dX2_twoOf_101 rfl rfl (by decide) rfl (fun x7 h => ?_)
    refine j_goto C dX2_twoOf_104 (tgt := 24) (by decide) ?_
    exact j_sub (ih _ _ h) ⟨rfl, ⟨rfl, ⟨rfl, ⟨rfl, trivial⟩⟩⟩⟩
def m_twoOf_b2 (N : Nat) (l1 : Int32) (l2 : Int32) : Nat → MS → Int32 → Option (Int32 × MS)
  | 0, _, _ => none
  | n + 1, T, l3 =>
    (if 1000 ≤ l3 then
    m_twoOf_b24 N l1 l2 N T 0
    else
    chk 1000 l3 (
    nm (sA T 51 l3.toNatClampNeg 0) fun T1 =>
    nm (l3 + 1) fun x3 =>
    m_twoOf_b2 N l1 l2 n T1 x3))
theorem wm_twoOf_b2 {κ : jK} (hκ : jStd κ) (N : Nat) {Γ : jG} (C : jC κ Γ cX2_twoOf 7 RX2 (some .int)) {G : Nat → Nat} (l1 : Int32) (l2 : Int32) {v : Int32} {T' : MS} : ∀ (n : Nat) (T : MS) (l3 : Int32), m_twoOf_b2 N l1 l2 n T l3 = some (v, T') → J κ Γ (1, 0, 0, (fun u w' => u = some (.int v) ∧ w' = wM κ G T')) 7 (wM κ G T) 0 0 2 [some (.ref (G 0)), some (.int l1), some (.int l2), some (.int l3), none, none, none] [] := by
  intro n
  induction n with
  | zero => intro _ _ h; cases h
  | succ n ih =>
    intro T l3 h
    rw [m_twoOf_b2] at h
    refine j_iload_n C dX2_twoOf_2 rfl rfl ?_
    refine j_sipush C (v := 1000) dX2_twoOf_3 rfl ?_
    refine j_icmp_ge C dX2_twoOf_6 (tgt := 22) (by decide) (fun c => ?_) (fun c => ?_)
    · replace h := ip c h
      refine j_iconst C (v := 0) dX2_twoOf_22 rfl ?_
      refine j_istore_n C dX2_twoOf_23 rfl (by decide) rfl ?_
      exact j_sub (wm_twoOf_b24 hκ N C _ _ N _ _ h) ⟨rfl, ⟨rfl, ⟨rfl, ⟨rfl, trivial⟩⟩⟩⟩
    replace h := im c h
    refine j_aload_n C dX2_twoOf_9 rfl rfl ?_
    refine jm_geta hκ C 51 (by decide) rfl q1688 dX2_twoOf_10 ?_
    refine j_iload_n C dX2_twoOf_13 rfl rfl ?_
    refine j_iconst C (v := 0) dX2_twoOf_14 rfl ?_
    obtain ⟨b2, h⟩ := chk_some h
    refine jm_iast hκ C 51 rfl b2 dX2_twoOf_15 ?_
    refine jm_nmT h (fun T1 h => ?_)
    refine j_iincN C h dX2_twoOf_16 rfl rfl (by decide) rfl (fun x3 h => ?_)
    refine j_goto C dX2_twoOf_19 (tgt := 2) (by decide) ?_
    exact j_sub (ih _ _ h) ⟨rfl, ⟨rfl, ⟨rfl, ⟨rfl, trivial⟩⟩⟩⟩
def m_twoOf (N : Nat) (T : MS) (p1 : Int32) (p2 : Int32) : Option (Int32 × MS) :=
  m_twoOf_b2 N p1 p2 N T 0
theorem mt_m_twoOf {κ : jK} (hκ : jStd κ) (N : Nat) (G : Nat → Nat) {T : MS} {p1 : Int32} {p2 : Int32} {v : Int32} {T' : MS} (h : m_twoOf N T p1 p2 = some (v, T')) : jM κ yX2_twoOf (ws_ yX2_twoOf cX2_twoOf 7 (some .int)) 1 0 0 [.ref (G 0), .int p1, .int p2] (wM κ G T) (fun u w' => u = some (.int v) ∧ w' = wM κ G T') := by
  rw [m_twoOf] at h
  refine jM.of (by decide) rfl (Nat.le_of_ble_eq_true rfl) fun Γ C _ => ?_
  show J κ Γ (1, 0, 0, (fun u w' => u = some (.int v) ∧ w' = wM κ G T')) 7 (wM κ G T) 0 0 0 [some (.ref (G 0)), some (.int p1), some (.int p2), none, none, none, none] []
  refine j_iconst C (v := 0) dX2_twoOf_0 rfl ?_
  refine j_istore_n C dX2_twoOf_1 rfl (by decide) rfl ?_
  exact j_sub (wm_twoOf_b2 hκ N C _ _ N _ _ h) ⟨rfl, ⟨rfl, ⟨rfl, ⟨rfl, trivial⟩⟩⟩⟩
/-! bestTwo -/
def m_bestTwo_b18 (N : Nat) (l1 : Int32) (l2 : Int32) (l3 : Int32) (k6 : MS → Int32 → Int32 → Int32 → Option (Int32 × MS)) : Nat → MS → Int32 → Int32 → Option (Int32 × MS)
  | 0, _, _, _ => none
  | n + 1, T, l4, l5 =>
    (if (T.1 0) ≤ l5 then
    (if l2 < 0 then
    nm (l3 + 1) fun x1 =>
    k6 T l3 l4 x1
    else
    (if l4 < l2 then
    nm (l3 + 1) fun x2 =>
    k6 T l3 l4 x2
    else
    nm (l3 + 1) fun x3 =>
    k6 T l1 l2 x3))
    else
    b2 (m_twoOf N T l5 l3) fun v5 T6 =>
    nm (jmax l4 v5) fun x7 =>
    nm (l5 + 1) fun x8 =>
    m_bestTwo_b18 N l1 l2 l3 k6 n T6 x7 x8)
theorem wm_bestTwo_b18 {κ : jK} (hκ : jStd κ) (N : Nat) {Γ : jG} (C : jC κ Γ cX2_bestTwo 6 RX2 (some .int)) {G : Nat → Nat} (l1 : Int32) (l2 : Int32) (l3 : Int32) (k6 : MS → Int32 → Int32 → Int32 → Option (Int32 × MS)) {v : Int32} {T' : MS} (hk6 : ∀ (T : MS) (l1 : Int32) (l2 : Int32) (l3 : Int32), k6 T l1 l2 l3 = some (v, T') → J κ Γ (2, 0, 0, (fun u w' => u = some (.int v) ∧ w' = wM κ G T')) 6 (wM κ G T) 0 0 6 [some (.ref (G 0)), some (.int l1), some (.int l2), some (.int l3), none, none] []) : ∀ (n : Nat) (T : MS) (l4 : Int32) (l5 : Int32), m_bestTwo_b18 N l1 l2 l3 k6 n T l4 l5 = some (v, T') → J κ Γ (2, 0, 0, (fun u w' => u = some (.int v) ∧ w' = wM κ G T')) 6 (wM κ G T) 0 0 18 [some (.ref (G 0)), some (.int l1), some (.int l2), some (.int l3), some (.int l4), some (.int l5)] [] := by
  intro n
  induction n with
  | zero => intro _ _ _ h; cases h
  | succ n ih =>
    intro T l4 l5 h
    rw [m_bestTwo_b18] at h
    refine j_iload C dX2_bestTwo_18 rfl ?_
    refine j_aload_n C dX2_bestTwo_20 rfl rfl ?_
    refine jm_geti hκ C 0 (by decide) rfl q1637 dX2_bestTwo_21 ?_
    refine j_icmp_ge C dX2_bestTwo_24 (tgt := 47) (by decide) (fun c => ?_) (fun c => ?_)
    · replace h := ip c h
      refine j_iload_n C dX2_bestTwo_47 rfl rfl ?_
      refine j_if_lt C dX2_bestTwo_48 (tgt := 60) (by decide) (fun c => ?_) (fun c => ?_)
      · replace h := ip c h
        refine j_iload C dX2_bestTwo_60 rfl ?_
        refine j_istore_n C dX2_bestTwo_62 rfl (by decide) rfl ?_
        refine j_iload_n C dX2_bestTwo_63 rfl rfl ?_
        refine j_istore_n C dX2_bestTwo_64 rfl (by decide) rfl ?_
        refine j_iincN C h dX2_bestTwo_65 rfl rfl (by decide) rfl (fun x1 h => ?_)
        refine j_goto C dX2_bestTwo_68 (tgt := 6) (by decide) ?_
        exact j_sub (hk6 _ _ _ _ h) ⟨rfl, ⟨rfl, ⟨rfl, ⟨rfl, trivial⟩⟩⟩⟩
      replace h := im c h
      refine j_iload C dX2_bestTwo_51 rfl ?_
      refine j_iload_n C dX2_bestTwo_53 rfl rfl ?_
      refine j_icmp_lt C dX2_bestTwo_54 (tgt := 60) (by decide) (fun c => ?_) (fun c => ?_)
      · replace h := ip c h
        refine j_iload C dX2_bestTwo_60 rfl ?_
        refine j_istore_n C dX2_bestTwo_62 rfl (by decide) rfl ?_
        refine j_iload_n C dX2_bestTwo_63 rfl rfl ?_
        refine j_istore_n C dX2_bestTwo_64 rfl (by decide) rfl ?_
        refine j_iincN C h dX2_bestTwo_65 rfl rfl (by decide) rfl (fun x2 h => ?_)
        refine j_goto C dX2_bestTwo_68 (tgt := 6) (by decide) ?_
        exact j_sub (hk6 _ _ _ _ h) ⟨rfl, ⟨rfl, ⟨rfl, ⟨rfl, trivial⟩⟩⟩⟩
      replace h := im c h
      refine j_goto C dX2_bestTwo_57 (tgt := 65) (by decide) ?_
      refine j_iincN C h dX2_bestTwo_65 rfl rfl (by decide) rfl (fun x3 h => ?_)
      refine j_goto C dX2_bestTwo_68 (tgt := 6) (by decide) ?_
      exact j_sub (hk6 _ _ _ _ h) ⟨rfl, ⟨rfl, ⟨rfl, ⟨rfl, trivial⟩⟩⟩⟩
    replace h := im c h
    refine j_iload C dX2_bestTwo_27 rfl ?_
    refine j_aload_n C dX2_bestTwo_29 rfl rfl ?_
    refine j_iload C dX2_bestTwo_30 rfl ?_
    refine j_iload_n C dX2_bestTwo_32 rfl rfl ?_
    obtain ⟨v5, T6, e4, h⟩ := ob2 h
    refine jm_Vi hκ C (mt_m_twoOf hκ N G e4) hG_m_twoOf hy_m_twoOf rfl rfl dX2_bestTwo_33 (jfit.of (Nat.le_of_ble_eq_true rfl) (by decide) (Nat.zero_le _) (Nat.zero_le _) (Nat.le_of_ble_eq_true rfl)) rfl ?_
    refine j_mmax C dX2_bestTwo_36 q1977 q695 q129 q696 (Nat.le_of_ble_eq_true rfl) (Nat.le_of_ble_eq_true rfl) (Nat.zero_le _) (Nat.zero_le _) ?_
    refine j_nmI h (fun x7 h => ?_)
    refine j_istore C dX2_bestTwo_39 (by decide) rfl ?_
    refine j_iincN C h dX2_bestTwo_41 rfl rfl (by decide) rfl (fun x8 h => ?_)
    refine j_goto C dX2_bestTwo_44 (tgt := 18) (by decide) ?_
    exact j_sub (ih _ _ _ h) ⟨rfl, ⟨rfl, ⟨rfl, ⟨rfl, ⟨rfl, ⟨rfl, trivial⟩⟩⟩⟩⟩⟩
def m_bestTwo_b6 (N : Nat) : Nat → MS → Int32 → Int32 → Int32 → Option (Int32 × MS)
  | 0, _, _, _, _ => none
  | n + 1, T, l1, l2, l3 =>
    (if 100 ≤ l3 then
    some (l1, T)
    else
    m_bestTwo_b18 N l1 l2 l3 (fun t y1 y2 y3 => m_bestTwo_b6 N n t y1 y2 y3) N T 0 0)
theorem wm_bestTwo_b6 {κ : jK} (hκ : jStd κ) (N : Nat) {Γ : jG} (C : jC κ Γ cX2_bestTwo 6 RX2 (some .int)) {G : Nat → Nat}  {v : Int32} {T' : MS} : ∀ (n : Nat) (T : MS) (l1 : Int32) (l2 : Int32) (l3 : Int32), m_bestTwo_b6 N n T l1 l2 l3 = some (v, T') → J κ Γ (2, 0, 0, (fun u w' => u = some (.int v) ∧ w' = wM κ G T')) 6 (wM κ G T) 0 0 6 [some (.ref (G 0)), some (.int l1), some (.int l2), some (.int l3), none, none] [] := by
  intro n
  induction n with
  | zero => intro _ _ _ _ h; cases h
  | succ n ih =>
    intro T l1 l2 l3 h
    rw [m_bestTwo_b6] at h
    refine j_iload_n C dX2_bestTwo_6 rfl rfl ?_
    refine j_bipush C (v := 100) dX2_bestTwo_7 rfl ?_
    refine j_icmp_ge C dX2_bestTwo_9 (tgt := 71) (by decide) (fun c => ?_) (fun c => ?_)
    · replace h := ip c h
      refine j_iload_n C dX2_bestTwo_71 rfl rfl ?_
      obtain ⟨rfl, rfl⟩ := sp2 h
      exact j_iret C dX2_bestTwo_72 (Nat.zero_le _) (Nat.zero_le _) ⟨rfl, rfl⟩
    replace h := im c h
    refine j_iconst C (v := 0) dX2_bestTwo_12 rfl ?_
    refine j_istore C dX2_bestTwo_13 (by decide) rfl ?_
    refine j_iconst C (v := 0) dX2_bestTwo_15 rfl ?_
    refine j_istore C dX2_bestTwo_16 (by decide) rfl ?_
    exact j_sub (wm_bestTwo_b18 hκ N C _ _ _ _ (fun _ _ _ _ h => ih _ _ _ _ h) N _ _ _ h) ⟨rfl, ⟨rfl, ⟨rfl, ⟨rfl, ⟨rfl, ⟨rfl, trivial⟩⟩⟩⟩⟩⟩
def m_bestTwo (N : Nat) (T : MS) : Option (Int32 × MS) :=
  m_bestTwo_b6 N N T 0 (-1) 0
theorem mt_m_bestTwo {κ : jK} (hκ : jStd κ) (N : Nat) (G : Nat → Nat) {T : MS} {v : Int32} {T' : MS} (h : m_bestTwo N T = some (v, T')) : jM κ yX2_bestTwo (ws_ yX2_bestTwo cX2_bestTwo 6 (some .int)) 2 0 0 [.ref (G 0)] (wM κ G T) (fun u w' => u = some (.int v) ∧ w' = wM κ G T') := by
  rw [m_bestTwo] at h
  refine jM.of (by decide) rfl (Nat.le_of_ble_eq_true rfl) fun Γ C _ => ?_
  show J κ Γ (2, 0, 0, (fun u w' => u = some (.int v) ∧ w' = wM κ G T')) 6 (wM κ G T) 0 0 0 [some (.ref (G 0)), none, none, none, none, none] []
  refine j_iconst C (v := 0) dX2_bestTwo_0 rfl ?_
  refine j_istore_n C dX2_bestTwo_1 rfl (by decide) rfl ?_
  refine j_iconst C (v := (-1)) dX2_bestTwo_2 rfl ?_
  refine j_istore_n C dX2_bestTwo_3 rfl (by decide) rfl ?_
  refine j_iconst C (v := 0) dX2_bestTwo_4 rfl ?_
  refine j_istore_n C dX2_bestTwo_5 rfl (by decide) rfl ?_
  exact j_sub (wm_bestTwo_b6 hκ N C N _ _ _ _ h) ⟨rfl, ⟨rfl, ⟨rfl, ⟨rfl, trivial⟩⟩⟩⟩
/-! two -/
def m_two_b33 (N : Nat) (l1 : Int32) (l2 : Int32) (l3 : Int32) (T : MS) : Option (Int32 × MS) :=
  (m_noRow T l1 0).bind fun v2 =>
  (if 0 ≤ v2 then
  (m_reads N T l1).bind fun T5 =>
  (m_walks N T5 4000).bind fun T8 =>
  (if l2 = (-1) then
  b2 (m_bestTwo N T8) fun v13 T14 =>
  some (v13, T14)
  else
  b2 (m_twoOf N T8 l2 l3) fun v10 T11 =>
  some (v10, T11))
  else
  some (v2, T))
theorem wm_two_b33 {κ : jK} (hκ : jStd κ) (N : Nat) {Γ : jG} (C : jC κ Γ cX2_two 5 RX2 (some .int)) {G : Nat → Nat} (l1 : Int32) (l2 : Int32) (l3 : Int32) {v : Int32} {T' : MS} : ∀ (T : MS), m_two_b33 N l1 l2 l3 T = some (v, T') → J κ Γ (4, 0, 0, (fun u w' => u = some (.int v) ∧ w' = wM κ G T')) 5 (wM κ G T) 0 0 33 [some (.ref (G 0)), some (.int l1), some (.int l2), some (.int l3), none] [] := by
  intro T h
  rw [m_two_b33] at h
  refine j_aload_n C dX2_two_33 rfl rfl ?_
  refine j_iload_n C dX2_two_34 rfl rfl ?_
  refine j_iconst C (v := 0) dX2_two_35 rfl ?_
  obtain ⟨v2, e1, h⟩ := ob h
  refine jm_Vi hκ C (mt_m_noRow hκ G e1) hG_m_noRow hy_m_noRow rfl rfl dX2_two_36 (jfit.of (Nat.le_of_ble_eq_true rfl) (by decide) (Nat.zero_le _) (Nat.zero_le _) (Nat.le_of_ble_eq_true rfl)) rfl ?_
  refine j_istore C dX2_two_39 (by decide) rfl ?_
  refine j_iload C dX2_two_41 rfl ?_
  refine j_if_ge C dX2_two_43 (tgt := 49) (by decide) (fun c => ?_) (fun c => ?_)
  · replace h := ip c h
    refine j_aload_n C dX2_two_49 rfl rfl ?_
    refine j_iload_n C dX2_two_50 rfl rfl ?_
    obtain ⟨T5, e3, h⟩ := ob h
    refine jm_Vv hκ C (mt_m_reads hκ N G e3) hG_m_reads hy_m_reads rfl rfl dX2_two_51 (jfit.of (Nat.le_of_ble_eq_true rfl) (by decide) (Nat.zero_le _) (Nat.zero_le _) (Nat.le_of_ble_eq_true rfl)) rfl ?_
    refine j_aload_n C dX2_two_54 rfl rfl ?_
    refine j_sipush C (v := 4000) dX2_two_55 rfl ?_
    obtain ⟨T8, e6, h⟩ := ob h
    refine jm_Vv hκ C (mt_m_walks hκ N G e6) hG_m_walks hy_m_walks rfl rfl dX2_two_58 (jfit.of (Nat.le_of_ble_eq_true rfl) (by decide) (Nat.zero_le _) (Nat.zero_le _) (Nat.le_of_ble_eq_true rfl)) rfl ?_
    refine j_iload_n C dX2_two_61 rfl rfl ?_
    refine j_iconst C (v := (-1)) dX2_two_62 rfl ?_
    refine j_icmp_ne C dX2_two_63 (tgt := 73) (by decide) (fun c => ?_) (fun c => ?_)
    · replace h := im c h
      refine j_aload_n C dX2_two_73 rfl rfl ?_
      refine j_iload_n C dX2_two_74 rfl rfl ?_
      refine j_iload_n C dX2_two_75 rfl rfl ?_
      obtain ⟨v10, T11, e9, h⟩ := ob2 h
      refine jm_Vi hκ C (mt_m_twoOf hκ N G e9) hG_m_twoOf hy_m_twoOf rfl rfl dX2_two_76 (jfit.of (Nat.le_of_ble_eq_true rfl) (by decide) (Nat.zero_le _) (Nat.zero_le _) (Nat.le_of_ble_eq_true rfl)) rfl ?_
      obtain ⟨rfl, rfl⟩ := sp2 h
      exact j_iret C dX2_two_79 (Nat.zero_le _) (Nat.zero_le _) ⟨rfl, rfl⟩
    replace h := ip c h
    refine j_aload_n C dX2_two_66 rfl rfl ?_
    obtain ⟨v13, T14, e12, h⟩ := ob2 h
    refine jm_Vi hκ C (mt_m_bestTwo hκ N G e12) hG_m_bestTwo hy_m_bestTwo rfl rfl dX2_two_67 (jfit.of (Nat.le_of_ble_eq_true rfl) (by decide) (Nat.zero_le _) (Nat.zero_le _) (Nat.le_of_ble_eq_true rfl)) rfl ?_
    refine j_goto C dX2_two_70 (tgt := 79) (by decide) ?_
    obtain ⟨rfl, rfl⟩ := sp2 h
    exact j_iret C dX2_two_79 (Nat.zero_le _) (Nat.zero_le _) ⟨rfl, rfl⟩
  replace h := im c h
  refine j_iload C dX2_two_46 rfl ?_
  obtain ⟨rfl, rfl⟩ := sp2 h
  exact j_iret C dX2_two_48 (Nat.zero_le _) (Nat.zero_le _) ⟨rfl, rfl⟩
def m_two (N : Nat) (T : MS) (p1 : Int32) (p2 : Int32) (p3 : Int32) : Option (Int32 × MS) :=
  (m_isShelf p1).bind fun v2 =>
  (if (b2i v2) = 0 then
  some ((-1), T)
  else
  (if p2 = (-1) then
  m_two_b33 N p1 p2 p3 T
  else
  (m_isPost T p2.toInt64).bind fun v4 =>
  (if (b2i v4) = 0 then
  some ((-1), T)
  else
  (m_within p3 0 99).bind fun v6 =>
  (if (b2i v6) = 0 then
  some ((-1), T)
  else
  m_two_b33 N p1 p2 p3 T))))
theorem mt_m_two {κ : jK} (hκ : jStd κ) (N : Nat) (G : Nat → Nat) {T : MS} {p1 : Int32} {p2 : Int32} {p3 : Int32} {v : Int32} {T' : MS} (h : m_two N T p1 p2 p3 = some (v, T')) : jM κ yX2_two (ws_ yX2_two cX2_two 5 (some .int)) 4 0 0 [.ref (G 0), .int p1, .int p2, .int p3] (wM κ G T) (fun u w' => u = some (.int v) ∧ w' = wM κ G T') := by
  rw [m_two] at h
  refine jM.of (by decide) rfl (Nat.le_of_ble_eq_true rfl) fun Γ C _ => ?_
  show J κ Γ (4, 0, 0, (fun u w' => u = some (.int v) ∧ w' = wM κ G T')) 5 (wM κ G T) 0 0 0 [some (.ref (G 0)), some (.int p1), some (.int p2), some (.int p3), none] []
  refine j_iload_n C dX2_two_0 rfl rfl ?_
  obtain ⟨v2, e1, h⟩ := ob h
  refine j_Si hκ.1 C (mt_m_isShelf hκ e1) hG_m_isShelf hy_m_isShelf rfl dX2_two_1 (jfit.of (Nat.le_of_ble_eq_true rfl) (by decide) (Nat.zero_le _) (Nat.zero_le _) (Nat.le_of_ble_eq_true rfl)) rfl ?_
  refine j_if_eq C dX2_two_4 (tgt := 31) (by decide) (fun c => ?_) (fun c => ?_)
  · replace h := ip c h
    refine j_iconst C (v := (-1)) dX2_two_31 rfl ?_
    obtain ⟨rfl, rfl⟩ := sp2 h
    exact j_iret C dX2_two_32 (Nat.zero_le _) (Nat.zero_le _) ⟨rfl, rfl⟩
  replace h := im c h
  refine j_iload_n C dX2_two_7 rfl rfl ?_
  refine j_iconst C (v := (-1)) dX2_two_8 rfl ?_
  refine j_icmp_eq C dX2_two_9 (tgt := 33) (by decide) (fun c => ?_) (fun c => ?_)
  · replace h := ip c h
    exact j_sub (wm_two_b33 hκ N C _ _ _ _ h) ⟨rfl, ⟨rfl, ⟨rfl, ⟨rfl, trivial⟩⟩⟩⟩
  replace h := im c h
  refine j_aload_n C dX2_two_12 rfl rfl ?_
  refine j_iload_n C dX2_two_13 rfl rfl ?_
  refine j_i2l C dX2_two_14 ?_
  obtain ⟨v4, e3, h⟩ := ob h
  refine jm_Vi hκ C (mt_m_isPost hκ G e3) hG_m_isPost hy_m_isPost rfl rfl dX2_two_15 (jfit.of (Nat.le_of_ble_eq_true rfl) (by decide) (Nat.zero_le _) (Nat.zero_le _) (Nat.le_of_ble_eq_true rfl)) rfl ?_
  refine j_if_eq C dX2_two_18 (tgt := 31) (by decide) (fun c => ?_) (fun c => ?_)
  · replace h := ip c h
    refine j_iconst C (v := (-1)) dX2_two_31 rfl ?_
    obtain ⟨rfl, rfl⟩ := sp2 h
    exact j_iret C dX2_two_32 (Nat.zero_le _) (Nat.zero_le _) ⟨rfl, rfl⟩
  replace h := im c h
  refine j_iload_n C dX2_two_21 rfl rfl ?_
  refine j_iconst C (v := 0) dX2_two_22 rfl ?_
  refine j_bipush C (v := 99) dX2_two_23 rfl ?_
  obtain ⟨v6, e5, h⟩ := ob h
  refine j_Si hκ.1 C (mt_m_within hκ e5) hG_m_within hy_m_within rfl dX2_two_25 (jfit.of (Nat.le_of_ble_eq_true rfl) (by decide) (Nat.zero_le _) (Nat.zero_le _) (Nat.le_of_ble_eq_true rfl)) rfl ?_
  refine j_if_ne C dX2_two_28 (tgt := 33) (by decide) (fun c => ?_) (fun c => ?_)
  · replace h := im c h
    exact j_sub (wm_two_b33 hκ N C _ _ _ _ h) ⟨rfl, ⟨rfl, ⟨rfl, ⟨rfl, trivial⟩⟩⟩⟩
  replace h := ip c h
  refine j_iconst C (v := (-1)) dX2_two_31 rfl ?_
  obtain ⟨rfl, rfl⟩ := sp2 h
  exact j_iret C dX2_two_32 (Nat.zero_le _) (Nat.zero_le _) ⟨rfl, rfl⟩
/-! turns -/
def m_turns_b9 (N : Nat) : Nat → MS → Int32 → Int32 → Option MS
  | 0, _, _, _ => none
  | n + 1, T, l1, l2 =>
    (if l2 ≤ l1 then
    some T
    else
    chk 20 l1 (
    nm (T.2.1 45 l1.toNatClampNeg) fun x2 =>
    chk 20 l2 (
    chk 20 l1 (
    nm (sA T 45 l1.toNatClampNeg (T.2.1 45 l2.toNatClampNeg)) fun T4 =>
    chk 20 l2 (
    nm (sA T4 45 l2.toNatClampNeg x2) fun T6 =>
    nm (l1 + 1) fun x8 =>
    nm (l2 + (-1)) fun x9 =>
    m_turns_b9 N n T6 x8 x9)))))
theorem wm_turns_b9 {κ : jK} (hκ : jStd κ) (N : Nat) {Γ : jG} (C : jC κ Γ cX2_turns 4 RX2 none) {G : Nat → Nat}  {T' : MS} : ∀ (n : Nat) (T : MS) (l1 : Int32) (l2 : Int32), m_turns_b9 N n T l1 l2 = some T' → J κ Γ (0, 0, 0, (fun u w' => u = none ∧ w' = wM κ G T')) 4 (wM κ G T) 0 0 9 [some (.ref (G 0)), some (.int l1), some (.int l2), none] [] := by
  intro n
  induction n with
  | zero => intro _ _ _ h; cases h
  | succ n ih =>
    intro T l1 l2 h
    rw [m_turns_b9] at h
    refine j_iload_n C dX2_turns_9 rfl rfl ?_
    refine j_iload_n C dX2_turns_10 rfl rfl ?_
    refine j_icmp_ge C dX2_turns_11 (tgt := 49) (by decide) (fun c => ?_) (fun c => ?_)
    · replace h := ip c h
      obtain rfl := sp1 h
      exact j_vret C dX2_turns_49 (Nat.zero_le _) (Nat.zero_le _) ⟨rfl, rfl⟩
    replace h := im c h
    refine j_aload_n C dX2_turns_14 rfl rfl ?_
    refine jm_geta hκ C 45 (by decide) rfl q1682 dX2_turns_15 ?_
    refine j_iload_n C dX2_turns_18 rfl rfl ?_
    obtain ⟨b1, h⟩ := chk_some h
    refine jm_iald hκ C 45 rfl b1 dX2_turns_19 ?_
    refine j_nmI h (fun x2 h => ?_)
    refine j_istore_n C dX2_turns_20 rfl (by decide) rfl ?_
    refine j_aload_n C dX2_turns_21 rfl rfl ?_
    refine jm_geta hκ C 45 (by decide) rfl q1682 dX2_turns_22 ?_
    refine j_iload_n C dX2_turns_25 rfl rfl ?_
    refine j_aload_n C dX2_turns_26 rfl rfl ?_
    refine jm_geta hκ C 45 (by decide) rfl q1682 dX2_turns_27 ?_
    refine j_iload_n C dX2_turns_30 rfl rfl ?_
    obtain ⟨b3, h⟩ := chk_some h
    refine jm_iald hκ C 45 rfl b3 dX2_turns_31 ?_
    obtain ⟨b5, h⟩ := chk_some h
    refine jm_iast hκ C 45 rfl b5 dX2_turns_32 ?_
    refine jm_nmT h (fun T4 h => ?_)
    refine j_aload_n C dX2_turns_33 rfl rfl ?_
    refine jm_geta hκ C 45 (by decide) rfl q1682 dX2_turns_34 ?_
    refine j_iload_n C dX2_turns_37 rfl rfl ?_
    refine j_iload_n C dX2_turns_38 rfl rfl ?_
    obtain ⟨b7, h⟩ := chk_some h
    refine jm_iast hκ C 45 rfl b7 dX2_turns_39 ?_
    refine jm_nmT h (fun T6 h => ?_)
    refine j_iincN C h dX2_turns_40 rfl rfl (by decide) rfl (fun x8 h => ?_)
    refine j_iincN C h dX2_turns_43 rfl rfl (by decide) rfl (fun x9 h => ?_)
    refine j_goto C dX2_turns_46 (tgt := 9) (by decide) ?_
    exact j_sub (ih _ _ _ h) ⟨rfl, ⟨rfl, ⟨rfl, trivial⟩⟩⟩
def m_turns (N : Nat) (T : MS) : Option MS :=
  nm ((T.1 44) - 1) fun x1 =>
  m_turns_b9 N N T 0 x1
theorem mt_m_turns {κ : jK} (hκ : jStd κ) (N : Nat) (G : Nat → Nat) {T : MS} {T' : MS} (h : m_turns N T = some T') : jM κ yX2_turns (ws_ yX2_turns cX2_turns 4 none) 0 0 0 [.ref (G 0)] (wM κ G T) (fun u w' => u = none ∧ w' = wM κ G T') := by
  rw [m_turns] at h
  refine jM.of (by decide) rfl (Nat.le_of_ble_eq_true rfl) fun Γ C _ => ?_
  show J κ Γ (0, 0, 0, (fun u w' => u = none ∧ w' = wM κ G T')) 4 (wM κ G T) 0 0 0 [some (.ref (G 0)), none, none, none] []
  refine j_iconst C (v := 0) dX2_turns_0 rfl ?_
  refine j_istore_n C dX2_turns_1 rfl (by decide) rfl ?_
  refine j_aload_n C dX2_turns_2 rfl rfl ?_
  refine jm_geti hκ C 44 (by decide) rfl q1681 dX2_turns_3 ?_
  refine j_iconst C (v := 1) dX2_turns_6 rfl ?_
  refine j_isub C dX2_turns_7 ?_
  refine j_nmI h (fun x1 h => ?_)
  refine j_istore_n C dX2_turns_8 rfl (by decide) rfl ?_
  exact j_sub (wm_turns_b9 hκ N C N _ _ _ h) ⟨rfl, ⟨rfl, ⟨rfl, trivial⟩⟩⟩
/-! bothWays -/
def m_bothWays_b41 (N : Nat) (l1 : Int32) : Nat → MS → Int32 → Option MS
  | 0, _, _ => none
  | n + 1, T, l2 =>
    (if 2000 ≤ l2 then
    (m_turns N T).bind fun T3 =>
    some T3
    else
    (m_isSeen T l1 l2).bind fun v5 =>
    chk 4000 (2000 + l2) (
    nm (sA T 50 (2000 + l2).toNatClampNeg (b2i v5)) fun T6 =>
    nm (l2 + 1) fun x8 =>
    m_bothWays_b41 N l1 n T6 x8))
theorem wm_bothWays_b41 {κ : jK} (hκ : jStd κ) (N : Nat) {Γ : jG} (C : jC κ Γ cX2_bothWays 3 RX2 none) {G : Nat → Nat} (l1 : Int32) {T' : MS} : ∀ (n : Nat) (T : MS) (l2 : Int32), m_bothWays_b41 N l1 n T l2 = some T' → J κ Γ (5, 0, 0, (fun u w' => u = none ∧ w' = wM κ G T')) 3 (wM κ G T) 0 0 41 [some (.ref (G 0)), some (.int l1), some (.int l2)] [] := by
  intro n
  induction n with
  | zero => intro _ _ h; cases h
  | succ n ih =>
    intro T l2 h
    rw [m_bothWays_b41] at h
    refine j_iload_n C dX2_bothWays_41 rfl rfl ?_
    refine j_sipush C (v := 2000) dX2_bothWays_42 rfl ?_
    refine j_icmp_ge C dX2_bothWays_45 (tgt := 70) (by decide) (fun c => ?_) (fun c => ?_)
    · replace h := ip c h
      refine j_aload_n C dX2_bothWays_70 rfl rfl ?_
      obtain ⟨T3, e1, h⟩ := ob h
      refine jm_Vv hκ C (mt_m_turns hκ N G e1) hG_m_turns hy_m_turns rfl rfl dX2_bothWays_71 (jfit.of (Nat.le_of_ble_eq_true rfl) (by decide) (Nat.zero_le _) (Nat.zero_le _) (Nat.le_of_ble_eq_true rfl)) rfl ?_
      obtain rfl := sp1 h
      exact j_vret C dX2_bothWays_74 (Nat.zero_le _) (Nat.zero_le _) ⟨rfl, rfl⟩
    replace h := im c h
    refine j_aload_n C dX2_bothWays_48 rfl rfl ?_
    refine jm_geta hκ C 50 (by decide) rfl q1687 dX2_bothWays_49 ?_
    refine j_sipush C (v := 2000) dX2_bothWays_52 rfl ?_
    refine j_iload_n C dX2_bothWays_55 rfl rfl ?_
    refine j_iadd C dX2_bothWays_56 ?_
    refine j_aload_n C dX2_bothWays_57 rfl rfl ?_
    refine j_iload_n C dX2_bothWays_58 rfl rfl ?_
    refine j_iload_n C dX2_bothWays_59 rfl rfl ?_
    obtain ⟨v5, e4, h⟩ := ob h
    refine jm_Vi hκ C (mt_m_isSeen hκ G e4) hG_m_isSeen hy_m_isSeen rfl rfl dX2_bothWays_60 (jfit.of (Nat.le_of_ble_eq_true rfl) (by decide) (Nat.zero_le _) (Nat.zero_le _) (Nat.le_of_ble_eq_true rfl)) rfl ?_
    obtain ⟨b7, h⟩ := chk_some h
    refine jm_zastB hκ C 50 rfl b7 dX2_bothWays_63 ?_
    refine jm_nmT h (fun T6 h => ?_)
    refine j_iincN C h dX2_bothWays_64 rfl rfl (by decide) rfl (fun x8 h => ?_)
    refine j_goto C dX2_bothWays_67 (tgt := 41) (by decide) ?_
    exact j_sub (ih _ _ h) ⟨rfl, ⟨rfl, ⟨rfl, trivial⟩⟩⟩
def m_bothWays_b6 (N : Nat) (l1 : Int32) : Nat → MS → Int32 → Option MS
  | 0, _, _ => none
  | n + 1, T, l2 =>
    (if 2000 ≤ l2 then
    (m_turns N T).bind fun T3 =>
    (m_looks N T3).bind fun T6 =>
    m_bothWays_b41 N l1 N T6 0
    else
    (m_isSeen T l1 l2).bind fun v8 =>
    chk 4000 l2 (
    nm (sA T 50 l2.toNatClampNeg (b2i v8)) fun T9 =>
    nm (l2 + 1) fun x11 =>
    m_bothWays_b6 N l1 n T9 x11))
theorem wm_bothWays_b6 {κ : jK} (hκ : jStd κ) (N : Nat) {Γ : jG} (C : jC κ Γ cX2_bothWays 3 RX2 none) {G : Nat → Nat} (l1 : Int32) {T' : MS} : ∀ (n : Nat) (T : MS) (l2 : Int32), m_bothWays_b6 N l1 n T l2 = some T' → J κ Γ (5, 0, 0, (fun u w' => u = none ∧ w' = wM κ G T')) 3 (wM κ G T) 0 0 6 [some (.ref (G 0)), some (.int l1), some (.int l2)] [] := by
  intro n
  induction n with
  | zero => intro _ _ h; cases h
  | succ n ih =>
    intro T l2 h
    rw [m_bothWays_b6] at h
    refine j_iload_n C dX2_bothWays_6 rfl rfl ?_
    refine j_sipush C (v := 2000) dX2_bothWays_7 rfl ?_
    refine j_icmp_ge C dX2_bothWays_10 (tgt := 31) (by decide) (fun c => ?_) (fun c => ?_)
    · replace h := ip c h
      refine j_aload_n C dX2_bothWays_31 rfl rfl ?_
      obtain ⟨T3, e1, h⟩ := ob h
      refine jm_Vv hκ C (mt_m_turns hκ N G e1) hG_m_turns hy_m_turns rfl rfl dX2_bothWays_32 (jfit.of (Nat.le_of_ble_eq_true rfl) (by decide) (Nat.zero_le _) (Nat.zero_le _) (Nat.le_of_ble_eq_true rfl)) rfl ?_
      refine j_aload_n C dX2_bothWays_35 rfl rfl ?_
      obtain ⟨T6, e4, h⟩ := ob h
      refine jm_Vv hκ C (mt_m_looks hκ N G e4) hG_m_looks hy_m_looks rfl rfl dX2_bothWays_36 (jfit.of (Nat.le_of_ble_eq_true rfl) (by decide) (Nat.zero_le _) (Nat.zero_le _) (Nat.le_of_ble_eq_true rfl)) rfl ?_
      refine j_iconst C (v := 0) dX2_bothWays_39 rfl ?_
      refine j_istore_n C dX2_bothWays_40 rfl (by decide) rfl ?_
      exact j_sub (wm_bothWays_b41 hκ N C _ N _ _ h) ⟨rfl, ⟨rfl, ⟨rfl, trivial⟩⟩⟩
    replace h := im c h
    refine j_aload_n C dX2_bothWays_13 rfl rfl ?_
    refine jm_geta hκ C 50 (by decide) rfl q1687 dX2_bothWays_14 ?_
    refine j_iload_n C dX2_bothWays_17 rfl rfl ?_
    refine j_aload_n C dX2_bothWays_18 rfl rfl ?_
    refine j_iload_n C dX2_bothWays_19 rfl rfl ?_
    refine j_iload_n C dX2_bothWays_20 rfl rfl ?_
    obtain ⟨v8, e7, h⟩ := ob h
    refine jm_Vi hκ C (mt_m_isSeen hκ G e7) hG_m_isSeen hy_m_isSeen rfl rfl dX2_bothWays_21 (jfit.of (Nat.le_of_ble_eq_true rfl) (by decide) (Nat.zero_le _) (Nat.zero_le _) (Nat.le_of_ble_eq_true rfl)) rfl ?_
    obtain ⟨b10, h⟩ := chk_some h
    refine jm_zastB hκ C 50 rfl b10 dX2_bothWays_24 ?_
    refine jm_nmT h (fun T9 h => ?_)
    refine j_iincN C h dX2_bothWays_25 rfl rfl (by decide) rfl (fun x11 h => ?_)
    refine j_goto C dX2_bothWays_28 (tgt := 6) (by decide) ?_
    exact j_sub (ih _ _ h) ⟨rfl, ⟨rfl, ⟨rfl, trivial⟩⟩⟩
def m_bothWays (N : Nat) (T : MS) (p1 : Int32) : Option MS :=
  (m_looks N T).bind fun T3 =>
  m_bothWays_b6 N p1 N T3 0
theorem mt_m_bothWays {κ : jK} (hκ : jStd κ) (N : Nat) (G : Nat → Nat) {T : MS} {p1 : Int32} {T' : MS} (h : m_bothWays N T p1 = some T') : jM κ yX2_bothWays (ws_ yX2_bothWays cX2_bothWays 3 none) 5 0 0 [.ref (G 0), .int p1] (wM κ G T) (fun u w' => u = none ∧ w' = wM κ G T') := by
  rw [m_bothWays] at h
  refine jM.of (by decide) rfl (Nat.le_of_ble_eq_true rfl) fun Γ C _ => ?_
  show J κ Γ (5, 0, 0, (fun u w' => u = none ∧ w' = wM κ G T')) 3 (wM κ G T) 0 0 0 [some (.ref (G 0)), some (.int p1), none] []
  refine j_aload_n C dX2_bothWays_0 rfl rfl ?_
  obtain ⟨T3, e1, h⟩ := ob h
  refine jm_Vv hκ C (mt_m_looks hκ N G e1) hG_m_looks hy_m_looks rfl rfl dX2_bothWays_1 (jfit.of (Nat.le_of_ble_eq_true rfl) (by decide) (Nat.zero_le _) (Nat.zero_le _) (Nat.le_of_ble_eq_true rfl)) rfl ?_
  refine j_iconst C (v := 0) dX2_bothWays_4 rfl ?_
  refine j_istore_n C dX2_bothWays_5 rfl (by decide) rfl ?_
  exact j_sub (wm_bothWays_b6 hκ N C _ N _ _ h) ⟨rfl, ⟨rfl, ⟨rfl, trivial⟩⟩⟩
/-! isMix -/
def m_isMix (p1 : Int32) : Option Bool :=
  (if p1 < 0 then
  some false
  else
  (if 13 ≤ (p1 / 100) then
  some false
  else
  (if (jrem p1 100) ≤ 0 then
  some false
  else
  some true)))
theorem mt_m_isMix {κ : jK} (hκ : jStd κ) {w : jW} {p1 : Int32} {v : Bool} (h : m_isMix p1 = some v) : jM κ yX2_isMix (ws_ yX2_isMix cX2_isMix 1 (some .boolean)) 0 0 0 [.int p1] (w) (fun u w' => u = some (.int (b2i v)) ∧ w' = w) := by
  rw [m_isMix] at h
  refine jM.of (by decide) rfl (Nat.le_of_ble_eq_true rfl) fun Γ C _ => ?_
  show J κ Γ (0, 0, 0, (fun u w' => u = some (.int (b2i v)) ∧ w' = w)) 1 (w) 0 0 0 [some (.int p1)] []
  refine j_iload_n C dX2_isMix_0 rfl rfl ?_
  refine j_if_lt C dX2_isMix_1 (tgt := 24) (by decide) (fun c => ?_) (fun c => ?_)
  · replace h := ip c h
    refine j_iconst C (v := 0) dX2_isMix_24 rfl ?_
    obtain rfl := sp1 h
    exact j_zret C rfl dX2_isMix_25 (Nat.zero_le _) (Nat.zero_le _) ⟨rfl, rfl⟩
  replace h := im c h
  refine j_iload_n C dX2_isMix_4 rfl rfl ?_
  refine j_bipush C (v := 100) dX2_isMix_5 rfl ?_
  refine j_idiv C dX2_isMix_7 (by decide) ?_
  refine j_bipush C (v := 13) dX2_isMix_8 rfl ?_
  refine j_icmp_ge C dX2_isMix_10 (tgt := 24) (by decide) (fun c => ?_) (fun c => ?_)
  · replace h := ip c h
    refine j_iconst C (v := 0) dX2_isMix_24 rfl ?_
    obtain rfl := sp1 h
    exact j_zret C rfl dX2_isMix_25 (Nat.zero_le _) (Nat.zero_le _) ⟨rfl, rfl⟩
  replace h := im c h
  refine j_iload_n C dX2_isMix_13 rfl rfl ?_
  refine j_bipush C (v := 100) dX2_isMix_14 rfl ?_
  refine j_irem C dX2_isMix_16 (by decide) ?_
  refine j_if_le C dX2_isMix_17 (tgt := 24) (by decide) (fun c => ?_) (fun c => ?_)
  · replace h := ip c h
    refine j_iconst C (v := 0) dX2_isMix_24 rfl ?_
    obtain rfl := sp1 h
    exact j_zret C rfl dX2_isMix_25 (Nat.zero_le _) (Nat.zero_le _) ⟨rfl, rfl⟩
  replace h := im c h
  refine j_iconst C (v := 1) dX2_isMix_20 rfl ?_
  refine j_goto C dX2_isMix_21 (tgt := 25) (by decide) ?_
  obtain rfl := sp1 h
  exact j_zret C rfl dX2_isMix_25 (Nat.zero_le _) (Nat.zero_le _) ⟨rfl, rfl⟩
/-! isFree -/
def m_isFree_b3 (N : Nat) (T : MS) (l1 : Int32) (l2 : Int32) (l3 : Int32) : Nat → Int32 → Option Bool
  | 0, _ => none
  | n + 1, l4 =>
    (if (l2 + l3) ≤ l4 then
    some true
    else
    chk 4000 ((2000 * l1) + l4) (
    (if (T.2.1 50 ((2000 * l1) + l4).toNatClampNeg) = 0 then
    nm (l4 + 1) fun x2 =>
    m_isFree_b3 N T l1 l2 l3 n x2
    else
    some false)))
theorem wm_isFree_b3 {κ : jK} (hκ : jStd κ) (N : Nat) {Γ : jG} (C : jC κ Γ cX2_isFree 5 RX2 (some .boolean)) {G : Nat → Nat} {T : MS} (l1 : Int32) (l2 : Int32) (l3 : Int32) {v : Bool} : ∀ (n : Nat) (l4 : Int32), m_isFree_b3 N T l1 l2 l3 n l4 = some v → J κ Γ (0, 0, 0, (fun u w' => u = some (.int (b2i v)) ∧ w' = wM κ G T)) 5 (wM κ G T) 0 0 3 [some (.ref (G 0)), some (.int l1), some (.int l2), some (.int l3), some (.int l4)] [] := by
  intro n
  induction n with
  | zero => intro _ h; cases h
  | succ n ih =>
    intro l4 h
    rw [m_isFree_b3] at h
    refine j_iload C dX2_isFree_3 rfl ?_
    refine j_iload_n C dX2_isFree_5 rfl rfl ?_
    refine j_iload_n C dX2_isFree_6 rfl rfl ?_
    refine j_iadd C dX2_isFree_7 ?_
    refine j_icmp_ge C dX2_isFree_8 (tgt := 35) (by decide) (fun c => ?_) (fun c => ?_)
    · replace h := ip c h
      refine j_iconst C (v := 1) dX2_isFree_35 rfl ?_
      obtain rfl := sp1 h
      exact j_zret C rfl dX2_isFree_36 (Nat.zero_le _) (Nat.zero_le _) ⟨rfl, rfl⟩
    replace h := im c h
    refine j_aload_n C dX2_isFree_11 rfl rfl ?_
    refine jm_geta hκ C 50 (by decide) rfl q1687 dX2_isFree_12 ?_
    refine j_sipush C (v := 2000) dX2_isFree_15 rfl ?_
    refine j_iload_n C dX2_isFree_18 rfl rfl ?_
    refine j_imul C dX2_isFree_19 ?_
    refine j_iload C dX2_isFree_20 rfl ?_
    refine j_iadd C dX2_isFree_22 ?_
    obtain ⟨b1, h⟩ := chk_some h
    refine jm_zald hκ C 50 rfl b1 dX2_isFree_23 ?_
    refine j_if_eq C dX2_isFree_24 (tgt := 29) (by decide) (fun c => ?_) (fun c => ?_)
    · replace h := ip c h
      refine j_iincN C h dX2_isFree_29 rfl rfl (by decide) rfl (fun x2 h => ?_)
      refine j_goto C dX2_isFree_32 (tgt := 3) (by decide) ?_
      exact j_sub (ih _ h) ⟨rfl, ⟨rfl, ⟨rfl, ⟨rfl, ⟨rfl, trivial⟩⟩⟩⟩⟩
    replace h := im c h
    refine j_iconst C (v := 0) dX2_isFree_27 rfl ?_
    obtain rfl := sp1 h
    exact j_zret C rfl dX2_isFree_28 (Nat.zero_le _) (Nat.zero_le _) ⟨rfl, rfl⟩
def m_isFree (N : Nat) (T : MS) (p1 : Int32) (p2 : Int32) (p3 : Int32) : Option Bool :=
  m_isFree_b3 N T p1 p2 p3 N p2
theorem mt_m_isFree {κ : jK} (hκ : jStd κ) (N : Nat) (G : Nat → Nat) {T : MS} {p1 : Int32} {p2 : Int32} {p3 : Int32} {v : Bool} (h : m_isFree N T p1 p2 p3 = some v) : jM κ yX2_isFree (ws_ yX2_isFree cX2_isFree 5 (some .boolean)) 0 0 0 [.ref (G 0), .int p1, .int p2, .int p3] (wM κ G T) (fun u w' => u = some (.int (b2i v)) ∧ w' = wM κ G T) := by
  rw [m_isFree] at h
  refine jM.of (by decide) rfl (Nat.le_of_ble_eq_true rfl) fun Γ C _ => ?_
  show J κ Γ (0, 0, 0, (fun u w' => u = some (.int (b2i v)) ∧ w' = wM κ G T)) 5 (wM κ G T) 0 0 0 [some (.ref (G 0)), some (.int p1), some (.int p2), some (.int p3), none] []
  refine j_iload_n C dX2_isFree_0 rfl rfl ?_
  refine j_istore C dX2_isFree_1 (by decide) rfl ?_
  exact j_sub (wm_isFree_b3 hκ N C _ _ _ N _ h) ⟨rfl, ⟨rfl, ⟨rfl, ⟨rfl, ⟨rfl, trivial⟩⟩⟩⟩⟩
/-! succeeds -/
def m_succeeds_b15 (N : Nat) (T : MS) (l1 : Int32) (l2 : Int32) (l3 : Int32) (s1 : Int32) : Option Int32 :=
  (m_isFree N T 1 l1 l3).bind fun v2 =>
  (if (b2i v2) = 0 then
  some (s1 + 0)
  else
  some (s1 + (12 - l2)))
theorem wm_succeeds_b15 {κ : jK} (hκ : jStd κ) (N : Nat) {Γ : jG} (C : jC κ Γ cX2_succeeds 4 RX2 (some .int)) {G : Nat → Nat} {T : MS} (l1 : Int32) (l2 : Int32) (l3 : Int32) {v : Int32} : ∀ (s1 : Int32), m_succeeds_b15 N T l1 l2 l3 s1 = some v → J κ Γ (1, 0, 0, (fun u w' => u = some (.int v) ∧ w' = wM κ G T)) 4 (wM κ G T) 0 0 15 [some (.ref (G 0)), some (.int l1), some (.int l2), some (.int l3)] [.int s1] := by
  intro s1 h
  rw [m_succeeds_b15] at h
  refine j_aload_n C dX2_succeeds_15 rfl rfl ?_
  refine j_iconst C (v := 1) dX2_succeeds_16 rfl ?_
  refine j_iload_n C dX2_succeeds_17 rfl rfl ?_
  refine j_iload_n C dX2_succeeds_18 rfl rfl ?_
  obtain ⟨v2, e1, h⟩ := ob h
  refine jm_Vi hκ C (mt_m_isFree hκ N G e1) hG_m_isFree hy_m_isFree rfl rfl dX2_succeeds_19 (jfit.of (Nat.le_of_ble_eq_true rfl) (by decide) (Nat.zero_le _) (Nat.zero_le _) (Nat.le_of_ble_eq_true rfl)) rfl ?_
  refine j_if_eq C dX2_succeeds_22 (tgt := 32) (by decide) (fun c => ?_) (fun c => ?_)
  · replace h := ip c h
    refine j_iconst C (v := 0) dX2_succeeds_32 rfl ?_
    refine j_iadd C dX2_succeeds_33 ?_
    obtain rfl := sp1 h
    exact j_iret C dX2_succeeds_34 (Nat.zero_le _) (Nat.zero_le _) ⟨rfl, rfl⟩
  replace h := im c h
  refine j_bipush C (v := 12) dX2_succeeds_25 rfl ?_
  refine j_iload_n C dX2_succeeds_27 rfl rfl ?_
  refine j_isub C dX2_succeeds_28 ?_
  refine j_goto C dX2_succeeds_29 (tgt := 33) (by decide) ?_
  refine j_iadd C dX2_succeeds_33 ?_
  obtain rfl := sp1 h
  exact j_iret C dX2_succeeds_34 (Nat.zero_le _) (Nat.zero_le _) ⟨rfl, rfl⟩
def m_succeeds (N : Nat) (T : MS) (p1 : Int32) (p2 : Int32) (p3 : Int32) : Option Int32 :=
  (m_isFree N T 0 p1 p3).bind fun v2 =>
  (if (b2i v2) = 0 then
  m_succeeds_b15 N T p1 p2 p3 0
  else
  m_succeeds_b15 N T p1 p2 p3 p2)
theorem mt_m_succeeds {κ : jK} (hκ : jStd κ) (N : Nat) (G : Nat → Nat) {T : MS} {p1 : Int32} {p2 : Int32} {p3 : Int32} {v : Int32} (h : m_succeeds N T p1 p2 p3 = some v) : jM κ yX2_succeeds (ws_ yX2_succeeds cX2_succeeds 4 (some .int)) 1 0 0 [.ref (G 0), .int p1, .int p2, .int p3] (wM κ G T) (fun u w' => u = some (.int v) ∧ w' = wM κ G T) := by
  rw [m_succeeds] at h
  refine jM.of (by decide) rfl (Nat.le_of_ble_eq_true rfl) fun Γ C _ => ?_
  show J κ Γ (1, 0, 0, (fun u w' => u = some (.int v) ∧ w' = wM κ G T)) 4 (wM κ G T) 0 0 0 [some (.ref (G 0)), some (.int p1), some (.int p2), some (.int p3)] []
  refine j_aload_n C dX2_succeeds_0 rfl rfl ?_
  refine j_iconst C (v := 0) dX2_succeeds_1 rfl ?_
  refine j_iload_n C dX2_succeeds_2 rfl rfl ?_
  refine j_iload_n C dX2_succeeds_3 rfl rfl ?_
  obtain ⟨v2, e1, h⟩ := ob h
  refine jm_Vi hκ C (mt_m_isFree hκ N G e1) hG_m_isFree hy_m_isFree rfl rfl dX2_succeeds_4 (jfit.of (Nat.le_of_ble_eq_true rfl) (by decide) (Nat.zero_le _) (Nat.zero_le _) (Nat.le_of_ble_eq_true rfl)) rfl ?_
  refine j_if_eq C dX2_succeeds_7 (tgt := 14) (by decide) (fun c => ?_) (fun c => ?_)
  · replace h := ip c h
    refine j_iconst C (v := 0) dX2_succeeds_14 rfl ?_
    exact j_sub (wm_succeeds_b15 hκ N C _ _ _ _ h) ⟨rfl, ⟨rfl, ⟨rfl, ⟨rfl, trivial⟩⟩⟩⟩
  replace h := im c h
  refine j_iload_n C dX2_succeeds_10 rfl rfl ?_
  refine j_goto C dX2_succeeds_11 (tgt := 15) (by decide) ?_
  exact j_sub (wm_succeeds_b15 hκ N C _ _ _ _ h) ⟨rfl, ⟨rfl, ⟨rfl, ⟨rfl, trivial⟩⟩⟩⟩
/-! success -/
def m_success (N : Nat) (T : MS) (p1 : Int32) (p2 : Int32) (p3 : Int32) (p4 : Int32) : Option (Int32 × MS) :=
  (m_isShelf p1).bind fun v2 =>
  (if (b2i v2) = 0 then
  some ((-1), T)
  else
  (m_isPost T p2.toInt64).bind fun v4 =>
  (if (b2i v4) = 0 then
  some ((-1), T)
  else
  (m_within p3 0 599).bind fun v6 =>
  (if (b2i v6) = 0 then
  some ((-1), T)
  else
  (m_isMix p4).bind fun v8 =>
  (if (b2i v8) = 0 then
  some ((-1), T)
  else
  (m_noRow T p1 0).bind fun v10 =>
  (if 0 ≤ v10 then
  (m_reads N T p1).bind fun T13 =>
  (m_bothWays N T13 p2).bind fun T16 =>
  (m_succeeds N T16 p3 (p4 / 100) (jrem p4 100)).bind fun v18 =>
  some (v18, T16)
  else
  some (v10, T))))))
theorem mt_m_success {κ : jK} (hκ : jStd κ) (N : Nat) (G : Nat → Nat) {T : MS} {p1 : Int32} {p2 : Int32} {p3 : Int32} {p4 : Int32} {v : Int32} {T' : MS} (h : m_success N T p1 p2 p3 p4 = some (v, T')) : jM κ yX2_success (ws_ yX2_success cX2_success 6 (some .int)) 6 0 0 [.ref (G 0), .int p1, .int p2, .int p3, .int p4] (wM κ G T) (fun u w' => u = some (.int v) ∧ w' = wM κ G T') := by
  rw [m_success] at h
  refine jM.of (by decide) rfl (Nat.le_of_ble_eq_true rfl) fun Γ C _ => ?_
  show J κ Γ (6, 0, 0, (fun u w' => u = some (.int v) ∧ w' = wM κ G T')) 6 (wM κ G T) 0 0 0 [some (.ref (G 0)), some (.int p1), some (.int p2), some (.int p3), some (.int p4), none] []
  refine j_iload_n C dX2_success_0 rfl rfl ?_
  obtain ⟨v2, e1, h⟩ := ob h
  refine j_Si hκ.1 C (mt_m_isShelf hκ e1) hG_m_isShelf hy_m_isShelf rfl dX2_success_1 (jfit.of (Nat.le_of_ble_eq_true rfl) (by decide) (Nat.zero_le _) (Nat.zero_le _) (Nat.le_of_ble_eq_true rfl)) rfl ?_
  refine j_if_eq C dX2_success_4 (tgt := 35) (by decide) (fun c => ?_) (fun c => ?_)
  · replace h := ip c h
    refine j_iconst C (v := (-1)) dX2_success_35 rfl ?_
    obtain ⟨rfl, rfl⟩ := sp2 h
    exact j_iret C dX2_success_36 (Nat.zero_le _) (Nat.zero_le _) ⟨rfl, rfl⟩
  replace h := im c h
  refine j_aload_n C dX2_success_7 rfl rfl ?_
  refine j_iload_n C dX2_success_8 rfl rfl ?_
  refine j_i2l C dX2_success_9 ?_
  obtain ⟨v4, e3, h⟩ := ob h
  refine jm_Vi hκ C (mt_m_isPost hκ G e3) hG_m_isPost hy_m_isPost rfl rfl dX2_success_10 (jfit.of (Nat.le_of_ble_eq_true rfl) (by decide) (Nat.zero_le _) (Nat.zero_le _) (Nat.le_of_ble_eq_true rfl)) rfl ?_
  refine j_if_eq C dX2_success_13 (tgt := 35) (by decide) (fun c => ?_) (fun c => ?_)
  · replace h := ip c h
    refine j_iconst C (v := (-1)) dX2_success_35 rfl ?_
    obtain ⟨rfl, rfl⟩ := sp2 h
    exact j_iret C dX2_success_36 (Nat.zero_le _) (Nat.zero_le _) ⟨rfl, rfl⟩
  replace h := im c h
  refine j_iload_n C dX2_success_16 rfl rfl ?_
  refine j_iconst C (v := 0) dX2_success_17 rfl ?_
  refine j_sipush C (v := 599) dX2_success_18 rfl ?_
  obtain ⟨v6, e5, h⟩ := ob h
  refine j_Si hκ.1 C (mt_m_within hκ e5) hG_m_within hy_m_within rfl dX2_success_21 (jfit.of (Nat.le_of_ble_eq_true rfl) (by decide) (Nat.zero_le _) (Nat.zero_le _) (Nat.le_of_ble_eq_true rfl)) rfl ?_
  refine j_if_eq C dX2_success_24 (tgt := 35) (by decide) (fun c => ?_) (fun c => ?_)
  · replace h := ip c h
    refine j_iconst C (v := (-1)) dX2_success_35 rfl ?_
    obtain ⟨rfl, rfl⟩ := sp2 h
    exact j_iret C dX2_success_36 (Nat.zero_le _) (Nat.zero_le _) ⟨rfl, rfl⟩
  replace h := im c h
  refine j_iload C dX2_success_27 rfl ?_
  obtain ⟨v8, e7, h⟩ := ob h
  refine j_Si hκ.1 C (mt_m_isMix hκ e7) hG_m_isMix hy_m_isMix rfl dX2_success_29 (jfit.of (Nat.le_of_ble_eq_true rfl) (by decide) (Nat.zero_le _) (Nat.zero_le _) (Nat.le_of_ble_eq_true rfl)) rfl ?_
  refine j_if_ne C dX2_success_32 (tgt := 37) (by decide) (fun c => ?_) (fun c => ?_)
  · replace h := im c h
    refine j_aload_n C dX2_success_37 rfl rfl ?_
    refine j_iload_n C dX2_success_38 rfl rfl ?_
    refine j_iconst C (v := 0) dX2_success_39 rfl ?_
    obtain ⟨v10, e9, h⟩ := ob h
    refine jm_Vi hκ C (mt_m_noRow hκ G e9) hG_m_noRow hy_m_noRow rfl rfl dX2_success_40 (jfit.of (Nat.le_of_ble_eq_true rfl) (by decide) (Nat.zero_le _) (Nat.zero_le _) (Nat.le_of_ble_eq_true rfl)) rfl ?_
    refine j_istore C dX2_success_43 (by decide) rfl ?_
    refine j_iload C dX2_success_45 rfl ?_
    refine j_if_ge C dX2_success_47 (tgt := 53) (by decide) (fun c => ?_) (fun c => ?_)
    · replace h := ip c h
      refine j_aload_n C dX2_success_53 rfl rfl ?_
      refine j_iload_n C dX2_success_54 rfl rfl ?_
      obtain ⟨T13, e11, h⟩ := ob h
      refine jm_Vv hκ C (mt_m_reads hκ N G e11) hG_m_reads hy_m_reads rfl rfl dX2_success_55 (jfit.of (Nat.le_of_ble_eq_true rfl) (by decide) (Nat.zero_le _) (Nat.zero_le _) (Nat.le_of_ble_eq_true rfl)) rfl ?_
      refine j_aload_n C dX2_success_58 rfl rfl ?_
      refine j_iload_n C dX2_success_59 rfl rfl ?_
      obtain ⟨T16, e14, h⟩ := ob h
      refine jm_Vv hκ C (mt_m_bothWays hκ N G e14) hG_m_bothWays hy_m_bothWays rfl rfl dX2_success_60 (jfit.of (Nat.le_of_ble_eq_true rfl) (by decide) (Nat.zero_le _) (Nat.zero_le _) (Nat.le_of_ble_eq_true rfl)) rfl ?_
      refine j_aload_n C dX2_success_63 rfl rfl ?_
      refine j_iload_n C dX2_success_64 rfl rfl ?_
      refine j_iload C dX2_success_65 rfl ?_
      refine j_bipush C (v := 100) dX2_success_67 rfl ?_
      refine j_idiv C dX2_success_69 (by decide) ?_
      refine j_iload C dX2_success_70 rfl ?_
      refine j_bipush C (v := 100) dX2_success_72 rfl ?_
      refine j_irem C dX2_success_74 (by decide) ?_
      obtain ⟨v18, e17, h⟩ := ob h
      refine jm_Vi hκ C (mt_m_succeeds hκ N G e17) hG_m_succeeds hy_m_succeeds rfl rfl dX2_success_75 (jfit.of (Nat.le_of_ble_eq_true rfl) (by decide) (Nat.zero_le _) (Nat.zero_le _) (Nat.le_of_ble_eq_true rfl)) rfl ?_
      obtain ⟨rfl, rfl⟩ := sp2 h
      exact j_iret C dX2_success_78 (Nat.zero_le _) (Nat.zero_le _) ⟨rfl, rfl⟩
    replace h := im c h
    refine j_iload C dX2_success_50 rfl ?_
    obtain ⟨rfl, rfl⟩ := sp2 h
    exact j_iret C dX2_success_52 (Nat.zero_le _) (Nat.zero_le _) ⟨rfl, rfl⟩
  replace h := ip c h
  refine j_iconst C (v := (-1)) dX2_success_35 rfl ?_
  obtain ⟨rfl, rfl⟩ := sp2 h
  exact j_iret C dX2_success_36 (Nat.zero_le _) (Nat.zero_le _) ⟨rfl, rfl⟩
/-! bestMinute_2 -/
def m_bestMinute_2_b8 (N : Nat) (T : MS) (l1 : Int32) (l2 : Int32) : Nat → Int32 → Int32 → Int32 → Option Int32
  | 0, _, _, _ => none
  | n + 1, l3, l4, l5 =>
    (if 600 ≤ l5 then
    some l3
    else
    (m_succeeds N T l5 l1 l2).bind fun v2 =>
    (if l4 < v2 then
    nm (l5 + 1) fun x3 =>
    m_bestMinute_2_b8 N T l1 l2 n l5 v2 x3
    else
    nm (l5 + 1) fun x4 =>
    m_bestMinute_2_b8 N T l1 l2 n l3 l4 x4))
theorem wm_bestMinute_2_b8 {κ : jK} (hκ : jStd κ) (N : Nat) {Γ : jG} (C : jC κ Γ cX2_bestMinute_2 7 RX2 (some .int)) {G : Nat → Nat} {T : MS} (l1 : Int32) (l2 : Int32) {v : Int32} : ∀ (n : Nat) (l3 : Int32) (l4 : Int32) (l5 : Int32), m_bestMinute_2_b8 N T l1 l2 n l3 l4 l5 = some v → J κ Γ (2, 0, 0, (fun u w' => u = some (.int v) ∧ w' = wM κ G T)) 7 (wM κ G T) 0 0 8 [some (.ref (G 0)), some (.int l1), some (.int l2), some (.int l3), some (.int l4), some (.int l5), none] [] := by
  intro n
  induction n with
  | zero => intro _ _ _ h; cases h
  | succ n ih =>
    intro l3 l4 l5 h
    rw [m_bestMinute_2_b8] at h
    refine j_iload C dX2_bestMinute_2_8 rfl ?_
    refine j_sipush C (v := 600) dX2_bestMinute_2_10 rfl ?_
    refine j_icmp_ge C dX2_bestMinute_2_13 (tgt := 49) (by decide) (fun c => ?_) (fun c => ?_)
    · replace h := ip c h
      refine j_iload_n C dX2_bestMinute_2_49 rfl rfl ?_
      obtain rfl := sp1 h
      exact j_iret C dX2_bestMinute_2_50 (Nat.zero_le _) (Nat.zero_le _) ⟨rfl, rfl⟩
    replace h := im c h
    refine j_aload_n C dX2_bestMinute_2_16 rfl rfl ?_
    refine j_iload C dX2_bestMinute_2_17 rfl ?_
    refine j_iload_n C dX2_bestMinute_2_19 rfl rfl ?_
    refine j_iload_n C dX2_bestMinute_2_20 rfl rfl ?_
    obtain ⟨v2, e1, h⟩ := ob h
    refine jm_Vi hκ C (mt_m_succeeds hκ N G e1) hG_m_succeeds hy_m_succeeds rfl rfl dX2_bestMinute_2_21 (jfit.of (Nat.le_of_ble_eq_true rfl) (by decide) (Nat.zero_le _) (Nat.zero_le _) (Nat.le_of_ble_eq_true rfl)) rfl ?_
    refine j_istore C dX2_bestMinute_2_24 (by decide) rfl ?_
    refine j_iload C dX2_bestMinute_2_26 rfl ?_
    refine j_iload C dX2_bestMinute_2_28 rfl ?_
    refine j_icmp_gt C dX2_bestMinute_2_30 (tgt := 36) (by decide) (fun c => ?_) (fun c => ?_)
    · replace h := ip c h
      refine j_iload C dX2_bestMinute_2_36 rfl ?_
      refine j_istore C dX2_bestMinute_2_38 (by decide) rfl ?_
      refine j_iload C dX2_bestMinute_2_40 rfl ?_
      refine j_istore_n C dX2_bestMinute_2_42 rfl (by decide) rfl ?_
      refine j_iincN C h dX2_bestMinute_2_43 rfl rfl (by decide) rfl (fun x3 h => ?_)
      refine j_goto C dX2_bestMinute_2_46 (tgt := 8) (by decide) ?_
      exact j_sub (ih _ _ _ h) ⟨rfl, ⟨rfl, ⟨rfl, ⟨rfl, ⟨rfl, ⟨rfl, trivial⟩⟩⟩⟩⟩⟩
    replace h := im c h
    refine j_goto C dX2_bestMinute_2_33 (tgt := 43) (by decide) ?_
    refine j_iincN C h dX2_bestMinute_2_43 rfl rfl (by decide) rfl (fun x4 h => ?_)
    refine j_goto C dX2_bestMinute_2_46 (tgt := 8) (by decide) ?_
    exact j_sub (ih _ _ _ h) ⟨rfl, ⟨rfl, ⟨rfl, ⟨rfl, ⟨rfl, ⟨rfl, trivial⟩⟩⟩⟩⟩⟩
def m_bestMinute_2 (N : Nat) (T : MS) (p1 : Int32) (p2 : Int32) : Option Int32 :=
  m_bestMinute_2_b8 N T p1 p2 N 0 (-1) 0
theorem mt_m_bestMinute_2 {κ : jK} (hκ : jStd κ) (N : Nat) (G : Nat → Nat) {T : MS} {p1 : Int32} {p2 : Int32} {v : Int32} (h : m_bestMinute_2 N T p1 p2 = some v) : jM κ yX2_bestMinute_2 (ws_ yX2_bestMinute_2 cX2_bestMinute_2 7 (some .int)) 2 0 0 [.ref (G 0), .int p1, .int p2] (wM κ G T) (fun u w' => u = some (.int v) ∧ w' = wM κ G T) := by
  rw [m_bestMinute_2] at h
  refine jM.of (by decide) rfl (Nat.le_of_ble_eq_true rfl) fun Γ C _ => ?_
  show J κ Γ (2, 0, 0, (fun u w' => u = some (.int v) ∧ w' = wM κ G T)) 7 (wM κ G T) 0 0 0 [some (.ref (G 0)), some (.int p1), some (.int p2), none, none, none, none] []
  refine j_iconst C (v := 0) dX2_bestMinute_2_0 rfl ?_
  refine j_istore_n C dX2_bestMinute_2_1 rfl (by decide) rfl ?_
  refine j_iconst C (v := (-1)) dX2_bestMinute_2_2 rfl ?_
  refine j_istore C dX2_bestMinute_2_3 (by decide) rfl ?_
  refine j_iconst C (v := 0) dX2_bestMinute_2_5 rfl ?_
  refine j_istore C dX2_bestMinute_2_6 (by decide) rfl ?_
  exact j_sub (wm_bestMinute_2_b8 hκ N C _ _ N _ _ _ h) ⟨rfl, ⟨rfl, ⟨rfl, ⟨rfl, ⟨rfl, ⟨rfl, trivial⟩⟩⟩⟩⟩⟩
/-! bestMinute -/
def m_bestMinute (N : Nat) (T : MS) (p1 : Int32) (p2 : Int32) (p3 : Int32) (p4 : Int32) : Option (Int32 × MS) :=
  (m_isShelf p1).bind fun v2 =>
  (if (b2i v2) = 0 then
  some ((-1), T)
  else
  (m_isPost T p2.toInt64).bind fun v4 =>
  (if (b2i v4) = 0 then
  some ((-1), T)
  else
  (m_isMix p3).bind fun v6 =>
  (if (b2i v6) = 0 then
  some ((-1), T)
  else
  (m_within p4 0 1).bind fun v8 =>
  (if (b2i v8) = 0 then
  some ((-1), T)
  else
  (m_noRow T p1 0).bind fun v10 =>
  (if 0 ≤ v10 then
  (m_reads N T p1).bind fun T13 =>
  (m_bothWays N T13 p2).bind fun T16 =>
  (m_bestMinute_2 N T16 (p3 / 100) (jrem p3 100)).bind fun v18 =>
  (if p4 = 0 then
  some (v18, T16)
  else
  (m_succeeds N T16 v18 (p3 / 100) (jrem p3 100)).bind fun v20 =>
  some (v20, T16))
  else
  some (v10, T))))))
theorem mt_m_bestMinute {κ : jK} (hκ : jStd κ) (N : Nat) (G : Nat → Nat) {T : MS} {p1 : Int32} {p2 : Int32} {p3 : Int32} {p4 : Int32} {v : Int32} {T' : MS} (h : m_bestMinute N T p1 p2 p3 p4 = some (v, T')) : jM κ yX2_bestMinute (ws_ yX2_bestMinute cX2_bestMinute 7 (some .int)) 6 0 0 [.ref (G 0), .int p1, .int p2, .int p3, .int p4] (wM κ G T) (fun u w' => u = some (.int v) ∧ w' = wM κ G T') := by
  rw [m_bestMinute] at h
  refine jM.of (by decide) rfl (Nat.le_of_ble_eq_true rfl) fun Γ C _ => ?_
  show J κ Γ (6, 0, 0, (fun u w' => u = some (.int v) ∧ w' = wM κ G T')) 7 (wM κ G T) 0 0 0 [some (.ref (G 0)), some (.int p1), some (.int p2), some (.int p3), some (.int p4), none, none] []
  refine j_iload_n C dX2_bestMinute_0 rfl rfl ?_
  obtain ⟨v2, e1, h⟩ := ob h
  refine j_Si hκ.1 C (mt_m_isShelf hκ e1) hG_m_isShelf hy_m_isShelf rfl dX2_bestMinute_1 (jfit.of (Nat.le_of_ble_eq_true rfl) (by decide) (Nat.zero_le _) (Nat.zero_le _) (Nat.le_of_ble_eq_true rfl)) rfl ?_
  refine j_if_eq C dX2_bestMinute_4 (tgt := 33) (by decide) (fun c => ?_) (fun c => ?_)
  · replace h := ip c h
    refine j_iconst C (v := (-1)) dX2_bestMinute_33 rfl ?_
    obtain ⟨rfl, rfl⟩ := sp2 h
    exact j_iret C dX2_bestMinute_34 (Nat.zero_le _) (Nat.zero_le _) ⟨rfl, rfl⟩
  replace h := im c h
  refine j_aload_n C dX2_bestMinute_7 rfl rfl ?_
  refine j_iload_n C dX2_bestMinute_8 rfl rfl ?_
  refine j_i2l C dX2_bestMinute_9 ?_
  obtain ⟨v4, e3, h⟩ := ob h
  refine jm_Vi hκ C (mt_m_isPost hκ G e3) hG_m_isPost hy_m_isPost rfl rfl dX2_bestMinute_10 (jfit.of (Nat.le_of_ble_eq_true rfl) (by decide) (Nat.zero_le _) (Nat.zero_le _) (Nat.le_of_ble_eq_true rfl)) rfl ?_
  refine j_if_eq C dX2_bestMinute_13 (tgt := 33) (by decide) (fun c => ?_) (fun c => ?_)
  · replace h := ip c h
    refine j_iconst C (v := (-1)) dX2_bestMinute_33 rfl ?_
    obtain ⟨rfl, rfl⟩ := sp2 h
    exact j_iret C dX2_bestMinute_34 (Nat.zero_le _) (Nat.zero_le _) ⟨rfl, rfl⟩
  replace h := im c h
  refine j_iload_n C dX2_bestMinute_16 rfl rfl ?_
  obtain ⟨v6, e5, h⟩ := ob h
  refine j_Si hκ.1 C (mt_m_isMix hκ e5) hG_m_isMix hy_m_isMix rfl dX2_bestMinute_17 (jfit.of (Nat.le_of_ble_eq_true rfl) (by decide) (Nat.zero_le _) (Nat.zero_le _) (Nat.le_of_ble_eq_true rfl)) rfl ?_
  refine j_if_eq C dX2_bestMinute_20 (tgt := 33) (by decide) (fun c => ?_) (fun c => ?_)
  · replace h := ip c h
    refine j_iconst C (v := (-1)) dX2_bestMinute_33 rfl ?_
    obtain ⟨rfl, rfl⟩ := sp2 h
    exact j_iret C dX2_bestMinute_34 (Nat.zero_le _) (Nat.zero_le _) ⟨rfl, rfl⟩
  replace h := im c h
  refine j_iload C dX2_bestMinute_23 rfl ?_
  refine j_iconst C (v := 0) dX2_bestMinute_25 rfl ?_
  refine j_iconst C (v := 1) dX2_bestMinute_26 rfl ?_
  obtain ⟨v8, e7, h⟩ := ob h
  refine j_Si hκ.1 C (mt_m_within hκ e7) hG_m_within hy_m_within rfl dX2_bestMinute_27 (jfit.of (Nat.le_of_ble_eq_true rfl) (by decide) (Nat.zero_le _) (Nat.zero_le _) (Nat.le_of_ble_eq_true rfl)) rfl ?_
  refine j_if_ne C dX2_bestMinute_30 (tgt := 35) (by decide) (fun c => ?_) (fun c => ?_)
  · replace h := im c h
    refine j_aload_n C dX2_bestMinute_35 rfl rfl ?_
    refine j_iload_n C dX2_bestMinute_36 rfl rfl ?_
    refine j_iconst C (v := 0) dX2_bestMinute_37 rfl ?_
    obtain ⟨v10, e9, h⟩ := ob h
    refine jm_Vi hκ C (mt_m_noRow hκ G e9) hG_m_noRow hy_m_noRow rfl rfl dX2_bestMinute_38 (jfit.of (Nat.le_of_ble_eq_true rfl) (by decide) (Nat.zero_le _) (Nat.zero_le _) (Nat.le_of_ble_eq_true rfl)) rfl ?_
    refine j_istore C dX2_bestMinute_41 (by decide) rfl ?_
    refine j_iload C dX2_bestMinute_43 rfl ?_
    refine j_if_ge C dX2_bestMinute_45 (tgt := 51) (by decide) (fun c => ?_) (fun c => ?_)
    · replace h := ip c h
      refine j_aload_n C dX2_bestMinute_51 rfl rfl ?_
      refine j_iload_n C dX2_bestMinute_52 rfl rfl ?_
      obtain ⟨T13, e11, h⟩ := ob h
      refine jm_Vv hκ C (mt_m_reads hκ N G e11) hG_m_reads hy_m_reads rfl rfl dX2_bestMinute_53 (jfit.of (Nat.le_of_ble_eq_true rfl) (by decide) (Nat.zero_le _) (Nat.zero_le _) (Nat.le_of_ble_eq_true rfl)) rfl ?_
      refine j_aload_n C dX2_bestMinute_56 rfl rfl ?_
      refine j_iload_n C dX2_bestMinute_57 rfl rfl ?_
      obtain ⟨T16, e14, h⟩ := ob h
      refine jm_Vv hκ C (mt_m_bothWays hκ N G e14) hG_m_bothWays hy_m_bothWays rfl rfl dX2_bestMinute_58 (jfit.of (Nat.le_of_ble_eq_true rfl) (by decide) (Nat.zero_le _) (Nat.zero_le _) (Nat.le_of_ble_eq_true rfl)) rfl ?_
      refine j_aload_n C dX2_bestMinute_61 rfl rfl ?_
      refine j_iload_n C dX2_bestMinute_62 rfl rfl ?_
      refine j_bipush C (v := 100) dX2_bestMinute_63 rfl ?_
      refine j_idiv C dX2_bestMinute_65 (by decide) ?_
      refine j_iload_n C dX2_bestMinute_66 rfl rfl ?_
      refine j_bipush C (v := 100) dX2_bestMinute_67 rfl ?_
      refine j_irem C dX2_bestMinute_69 (by decide) ?_
      obtain ⟨v18, e17, h⟩ := ob h
      refine jm_Vi hκ C (mt_m_bestMinute_2 hκ N G e17) hG_m_bestMinute_2 hy_m_bestMinute_2 rfl rfl dX2_bestMinute_70 (jfit.of (Nat.le_of_ble_eq_true rfl) (by decide) (Nat.zero_le _) (Nat.zero_le _) (Nat.le_of_ble_eq_true rfl)) rfl ?_
      refine j_istore C dX2_bestMinute_73 (by decide) rfl ?_
      refine j_iload C dX2_bestMinute_75 rfl ?_
      refine j_if_ne C dX2_bestMinute_77 (tgt := 85) (by decide) (fun c => ?_) (fun c => ?_)
      · replace h := im c h
        refine j_aload_n C dX2_bestMinute_85 rfl rfl ?_
        refine j_iload C dX2_bestMinute_86 rfl ?_
        refine j_iload_n C dX2_bestMinute_88 rfl rfl ?_
        refine j_bipush C (v := 100) dX2_bestMinute_89 rfl ?_
        refine j_idiv C dX2_bestMinute_91 (by decide) ?_
        refine j_iload_n C dX2_bestMinute_92 rfl rfl ?_
        refine j_bipush C (v := 100) dX2_bestMinute_93 rfl ?_
        refine j_irem C dX2_bestMinute_95 (by decide) ?_
        obtain ⟨v20, e19, h⟩ := ob h
        refine jm_Vi hκ C (mt_m_succeeds hκ N G e19) hG_m_succeeds hy_m_succeeds rfl rfl dX2_bestMinute_96 (jfit.of (Nat.le_of_ble_eq_true rfl) (by decide) (Nat.zero_le _) (Nat.zero_le _) (Nat.le_of_ble_eq_true rfl)) rfl ?_
        obtain ⟨rfl, rfl⟩ := sp2 h
        exact j_iret C dX2_bestMinute_99 (Nat.zero_le _) (Nat.zero_le _) ⟨rfl, rfl⟩
      replace h := ip c h
      refine j_iload C dX2_bestMinute_80 rfl ?_
      refine j_goto C dX2_bestMinute_82 (tgt := 99) (by decide) ?_
      obtain ⟨rfl, rfl⟩ := sp2 h
      exact j_iret C dX2_bestMinute_99 (Nat.zero_le _) (Nat.zero_le _) ⟨rfl, rfl⟩
    replace h := im c h
    refine j_iload C dX2_bestMinute_48 rfl ?_
    obtain ⟨rfl, rfl⟩ := sp2 h
    exact j_iret C dX2_bestMinute_50 (Nat.zero_le _) (Nat.zero_le _) ⟨rfl, rfl⟩
  replace h := ip c h
  refine j_iconst C (v := (-1)) dX2_bestMinute_33 rfl ?_
  obtain ⟨rfl, rfl⟩ := sp2 h
  exact j_iret C dX2_bestMinute_34 (Nat.zero_le _) (Nat.zero_le _) ⟨rfl, rfl⟩
/-! mix -/
def m_mix_b64 (N : Nat) (l3 : Int32) : Nat → MS → Int32 → Int32 → Int32 → Option (Int32 × MS)
  | 0, _, _, _, _ => none
  | n + 1, T, l5, l6, l7 =>
    (if 13 ≤ l7 then
    some (l5, T)
    else
    (m_bestMinute_2 N T l7 l3).bind fun v2 =>
    (m_succeeds N T v2 l7 l3).bind fun v4 =>
    (if v4 < l6 then
    nm (l7 + 1) fun x5 =>
    m_mix_b64 N l3 n T l7 v4 x5
    else
    nm (l7 + 1) fun x6 =>
    m_mix_b64 N l3 n T l5 l6 x6))
theorem wm_mix_b64 {κ : jK} (hκ : jStd κ) (N : Nat) {Γ : jG} (C : jC κ Γ cX2_mix 9 RX2 (some .int)) {G : Nat → Nat} (l3 : Int32) {v : Int32} {T' : MS} : ∀ (n : Nat) (T : MS) (l5 : Int32) (l6 : Int32) (l7 : Int32), m_mix_b64 N l3 n T l5 l6 l7 = some (v, T') → J κ Γ (6, 0, 0, (fun u w' => u = some (.int v) ∧ w' = wM κ G T')) 9 (wM κ G T) 0 0 64 [some (.ref (G 0)), none, none, some (.int l3), none, some (.int l5), some (.int l6), some (.int l7), none] [] := by
  intro n
  induction n with
  | zero => intro _ _ _ _ h; cases h
  | succ n ih =>
    intro T l5 l6 l7 h
    rw [m_mix_b64] at h
    refine j_iload C dX2_mix_64 rfl ?_
    refine j_bipush C (v := 13) dX2_mix_66 rfl ?_
    refine j_icmp_ge C dX2_mix_68 (tgt := 111) (by decide) (fun c => ?_) (fun c => ?_)
    · replace h := ip c h
      refine j_iload C dX2_mix_111 rfl ?_
      obtain ⟨rfl, rfl⟩ := sp2 h
      exact j_iret C dX2_mix_113 (Nat.zero_le _) (Nat.zero_le _) ⟨rfl, rfl⟩
    replace h := im c h
    refine j_aload_n C dX2_mix_71 rfl rfl ?_
    refine j_aload_n C dX2_mix_72 rfl rfl ?_
    refine j_iload C dX2_mix_73 rfl ?_
    refine j_iload_n C dX2_mix_75 rfl rfl ?_
    obtain ⟨v2, e1, h⟩ := ob h
    refine jm_Vi hκ C (mt_m_bestMinute_2 hκ N G e1) hG_m_bestMinute_2 hy_m_bestMinute_2 rfl rfl dX2_mix_76 (jfit.of (Nat.le_of_ble_eq_true rfl) (by decide) (Nat.zero_le _) (Nat.zero_le _) (Nat.le_of_ble_eq_true rfl)) rfl ?_
    refine j_iload C dX2_mix_79 rfl ?_
    refine j_iload_n C dX2_mix_81 rfl rfl ?_
    obtain ⟨v4, e3, h⟩ := ob h
    refine jm_Vi hκ C (mt_m_succeeds hκ N G e3) hG_m_succeeds hy_m_succeeds rfl rfl dX2_mix_82 (jfit.of (Nat.le_of_ble_eq_true rfl) (by decide) (Nat.zero_le _) (Nat.zero_le _) (Nat.le_of_ble_eq_true rfl)) rfl ?_
    refine j_istore C dX2_mix_85 (by decide) rfl ?_
    refine j_iload C dX2_mix_87 rfl ?_
    refine j_iload C dX2_mix_89 rfl ?_
    refine j_icmp_lt C dX2_mix_91 (tgt := 97) (by decide) (fun c => ?_) (fun c => ?_)
    · replace h := ip c h
      refine j_iload C dX2_mix_97 rfl ?_
      refine j_istore C dX2_mix_99 (by decide) rfl ?_
      refine j_iload C dX2_mix_101 rfl ?_
      refine j_istore C dX2_mix_103 (by decide) rfl ?_
      refine j_iincN C h dX2_mix_105 rfl rfl (by decide) rfl (fun x5 h => ?_)
      refine j_goto C dX2_mix_108 (tgt := 64) (by decide) ?_
      exact j_sub (ih _ _ _ _ h) ⟨rfl, ⟨rfl, ⟨rfl, ⟨rfl, ⟨rfl, trivial⟩⟩⟩⟩⟩
    replace h := im c h
    refine j_goto C dX2_mix_94 (tgt := 105) (by decide) ?_
    refine j_iincN C h dX2_mix_105 rfl rfl (by decide) rfl (fun x6 h => ?_)
    refine j_goto C dX2_mix_108 (tgt := 64) (by decide) ?_
    exact j_sub (ih _ _ _ _ h) ⟨rfl, ⟨rfl, ⟨rfl, ⟨rfl, ⟨rfl, trivial⟩⟩⟩⟩⟩
def m_mix (N : Nat) (T : MS) (p1 : Int32) (p2 : Int32) (p3 : Int32) : Option (Int32 × MS) :=
  (m_isShelf p1).bind fun v2 =>
  (if (b2i v2) = 0 then
  some ((-1), T)
  else
  (m_isPost T p2.toInt64).bind fun v4 =>
  (if (b2i v4) = 0 then
  some ((-1), T)
  else
  (m_within p3 1 99).bind fun v6 =>
  (if (b2i v6) = 0 then
  some ((-1), T)
  else
  (m_noRow T p1 0).bind fun v8 =>
  (if 0 ≤ v8 then
  (m_reads N T p1).bind fun T11 =>
  (m_bothWays N T11 p2).bind fun T14 =>
  m_mix_b64 N p3 N T14 0 99 0
  else
  some (v8, T)))))
theorem mt_m_mix {κ : jK} (hκ : jStd κ) (N : Nat) (G : Nat → Nat) {T : MS} {p1 : Int32} {p2 : Int32} {p3 : Int32} {v : Int32} {T' : MS} (h : m_mix N T p1 p2 p3 = some (v, T')) : jM κ yX2_mix (ws_ yX2_mix cX2_mix 9 (some .int)) 6 0 0 [.ref (G 0), .int p1, .int p2, .int p3] (wM κ G T) (fun u w' => u = some (.int v) ∧ w' = wM κ G T') := by
  rw [m_mix] at h
  refine jM.of (by decide) rfl (Nat.le_of_ble_eq_true rfl) fun Γ C _ => ?_
  show J κ Γ (6, 0, 0, (fun u w' => u = some (.int v) ∧ w' = wM κ G T')) 9 (wM κ G T) 0 0 0 [some (.ref (G 0)), some (.int p1), some (.int p2), some (.int p3), none, none, none, none, none] []
  refine j_iload_n C dX2_mix_0 rfl rfl ?_
  obtain ⟨v2, e1, h⟩ := ob h
  refine j_Si hκ.1 C (mt_m_isShelf hκ e1) hG_m_isShelf hy_m_isShelf rfl dX2_mix_1 (jfit.of (Nat.le_of_ble_eq_true rfl) (by decide) (Nat.zero_le _) (Nat.zero_le _) (Nat.le_of_ble_eq_true rfl)) rfl ?_
  refine j_if_eq C dX2_mix_4 (tgt := 26) (by decide) (fun c => ?_) (fun c => ?_)
  · replace h := ip c h
    refine j_iconst C (v := (-1)) dX2_mix_26 rfl ?_
    obtain ⟨rfl, rfl⟩ := sp2 h
    exact j_iret C dX2_mix_27 (Nat.zero_le _) (Nat.zero_le _) ⟨rfl, rfl⟩
  replace h := im c h
  refine j_aload_n C dX2_mix_7 rfl rfl ?_
  refine j_iload_n C dX2_mix_8 rfl rfl ?_
  refine j_i2l C dX2_mix_9 ?_
  obtain ⟨v4, e3, h⟩ := ob h
  refine jm_Vi hκ C (mt_m_isPost hκ G e3) hG_m_isPost hy_m_isPost rfl rfl dX2_mix_10 (jfit.of (Nat.le_of_ble_eq_true rfl) (by decide) (Nat.zero_le _) (Nat.zero_le _) (Nat.le_of_ble_eq_true rfl)) rfl ?_
  refine j_if_eq C dX2_mix_13 (tgt := 26) (by decide) (fun c => ?_) (fun c => ?_)
  · replace h := ip c h
    refine j_iconst C (v := (-1)) dX2_mix_26 rfl ?_
    obtain ⟨rfl, rfl⟩ := sp2 h
    exact j_iret C dX2_mix_27 (Nat.zero_le _) (Nat.zero_le _) ⟨rfl, rfl⟩
  replace h := im c h
  refine j_iload_n C dX2_mix_16 rfl rfl ?_
  refine j_iconst C (v := 1) dX2_mix_17 rfl ?_
  refine j_bipush C (v := 99) dX2_mix_18 rfl ?_
  obtain ⟨v6, e5, h⟩ := ob h
  refine j_Si hκ.1 C (mt_m_within hκ e5) hG_m_within hy_m_within rfl dX2_mix_20 (jfit.of (Nat.le_of_ble_eq_true rfl) (by decide) (Nat.zero_le _) (Nat.zero_le _) (Nat.le_of_ble_eq_true rfl)) rfl ?_
  refine j_if_ne C dX2_mix_23 (tgt := 28) (by decide) (fun c => ?_) (fun c => ?_)
  · replace h := im c h
    refine j_aload_n C dX2_mix_28 rfl rfl ?_
    refine j_iload_n C dX2_mix_29 rfl rfl ?_
    refine j_iconst C (v := 0) dX2_mix_30 rfl ?_
    obtain ⟨v8, e7, h⟩ := ob h
    refine jm_Vi hκ C (mt_m_noRow hκ G e7) hG_m_noRow hy_m_noRow rfl rfl dX2_mix_31 (jfit.of (Nat.le_of_ble_eq_true rfl) (by decide) (Nat.zero_le _) (Nat.zero_le _) (Nat.le_of_ble_eq_true rfl)) rfl ?_
    refine j_istore C dX2_mix_34 (by decide) rfl ?_
    refine j_iload C dX2_mix_36 rfl ?_
    refine j_if_ge C dX2_mix_38 (tgt := 44) (by decide) (fun c => ?_) (fun c => ?_)
    · replace h := ip c h
      refine j_aload_n C dX2_mix_44 rfl rfl ?_
      refine j_iload_n C dX2_mix_45 rfl rfl ?_
      obtain ⟨T11, e9, h⟩ := ob h
      refine jm_Vv hκ C (mt_m_reads hκ N G e9) hG_m_reads hy_m_reads rfl rfl dX2_mix_46 (jfit.of (Nat.le_of_ble_eq_true rfl) (by decide) (Nat.zero_le _) (Nat.zero_le _) (Nat.le_of_ble_eq_true rfl)) rfl ?_
      refine j_aload_n C dX2_mix_49 rfl rfl ?_
      refine j_iload_n C dX2_mix_50 rfl rfl ?_
      obtain ⟨T14, e12, h⟩ := ob h
      refine jm_Vv hκ C (mt_m_bothWays hκ N G e12) hG_m_bothWays hy_m_bothWays rfl rfl dX2_mix_51 (jfit.of (Nat.le_of_ble_eq_true rfl) (by decide) (Nat.zero_le _) (Nat.zero_le _) (Nat.le_of_ble_eq_true rfl)) rfl ?_
      refine j_iconst C (v := 0) dX2_mix_54 rfl ?_
      refine j_istore C dX2_mix_55 (by decide) rfl ?_
      refine j_bipush C (v := 99) dX2_mix_57 rfl ?_
      refine j_istore C dX2_mix_59 (by decide) rfl ?_
      refine j_iconst C (v := 0) dX2_mix_61 rfl ?_
      refine j_istore C dX2_mix_62 (by decide) rfl ?_
      exact j_sub (wm_mix_b64 hκ N C _ N _ _ _ _ h) ⟨rfl, ⟨rfl, ⟨rfl, ⟨rfl, ⟨rfl, trivial⟩⟩⟩⟩⟩
    replace h := im c h
    refine j_iload C dX2_mix_41 rfl ?_
    obtain ⟨rfl, rfl⟩ := sp2 h
    exact j_iret C dX2_mix_43 (Nat.zero_le _) (Nat.zero_le _) ⟨rfl, rfl⟩
  replace h := ip c h
  refine j_iconst C (v := (-1)) dX2_mix_26 rfl ?_
  obtain ⟨rfl, rfl⟩ := sp2 h
  exact j_iret C dX2_mix_27 (Nat.zero_le _) (Nat.zero_le _) ⟨rfl, rfl⟩
/-! later -/
def m_later (T : MS) (p1 : Int32) (p2 : Int32) : Option Int32 :=
  chk 6 p1 (
  (if ((2 * p2) + 1) < (T.2.1 42 p1.toNatClampNeg) then
  (m_toldAt T p1 (2 * p2)).bind fun v3 =>
  (m_toldAt T p1 ((2 * p2) + 1)).bind fun v5 =>
  (m_isPost T v3.toInt64).bind fun v7 =>
  (if (b2i v7) = 0 then
  some (-9999)
  else
  (if p2 = 0 then
  (m_minutes T (-1) v3).bind fun v17 =>
  some (v5 - v17)
  else
  (m_toldAt T p1 ((2 * p2) - 2)).bind fun v9 =>
  (m_isPost T v9.toInt64).bind fun v11 =>
  (if (b2i v11) = 0 then
  some (-9999)
  else
  (m_toldAt T p1 ((2 * p2) - 1)).bind fun v13 =>
  (m_minutes T v9 v3).bind fun v15 =>
  some (((v5 - v13) - (T.2.1 5 3)) - v15))))
  else
  some (-9999)))
theorem mt_m_later {κ : jK} (hκ : jStd κ) (G : Nat → Nat) {T : MS} {p1 : Int32} {p2 : Int32} {v : Int32} (h : m_later T p1 p2 = some v) : jM κ yX2_later (ws_ yX2_later cX2_later 6 (some .int)) 3 0 0 [.ref (G 0), .int p1, .int p2] (wM κ G T) (fun u w' => u = some (.int v) ∧ w' = wM κ G T) := by
  rw [m_later] at h
  refine jM.of (by decide) rfl (Nat.le_of_ble_eq_true rfl) fun Γ C _ => ?_
  show J κ Γ (3, 0, 0, (fun u w' => u = some (.int v) ∧ w' = wM κ G T)) 6 (wM κ G T) 0 0 0 [some (.ref (G 0)), some (.int p1), some (.int p2), none, none, none] []
  refine j_iconst C (v := 2) dX2_later_0 rfl ?_
  refine j_iload_n C dX2_later_1 rfl rfl ?_
  refine j_imul C dX2_later_2 ?_
  refine j_iconst C (v := 1) dX2_later_3 rfl ?_
  refine j_iadd C dX2_later_4 ?_
  refine j_aload_n C dX2_later_5 rfl rfl ?_
  refine jm_geta hκ C 42 (by decide) rfl q1679 dX2_later_6 ?_
  refine j_iload_n C dX2_later_9 rfl rfl ?_
  obtain ⟨b1, h⟩ := chk_some h
  refine jm_iald hκ C 42 rfl b1 dX2_later_10 ?_
  refine j_icmp_lt C dX2_later_11 (tgt := 18) (by decide) (fun c => ?_) (fun c => ?_)
  · replace h := ip c h
    refine j_aload_n C dX2_later_18 rfl rfl ?_
    refine j_iload_n C dX2_later_19 rfl rfl ?_
    refine j_iconst C (v := 2) dX2_later_20 rfl ?_
    refine j_iload_n C dX2_later_21 rfl rfl ?_
    refine j_imul C dX2_later_22 ?_
    obtain ⟨v3, e2, h⟩ := ob h
    refine jm_Vi hκ C (mt_m_toldAt hκ G e2) hG_m_toldAt hy_m_toldAt rfl rfl dX2_later_23 (jfit.of (Nat.le_of_ble_eq_true rfl) (by decide) (Nat.zero_le _) (Nat.zero_le _) (Nat.le_of_ble_eq_true rfl)) rfl ?_
    refine j_istore_n C dX2_later_26 rfl (by decide) rfl ?_
    refine j_aload_n C dX2_later_27 rfl rfl ?_
    refine j_iload_n C dX2_later_28 rfl rfl ?_
    refine j_iconst C (v := 2) dX2_later_29 rfl ?_
    refine j_iload_n C dX2_later_30 rfl rfl ?_
    refine j_imul C dX2_later_31 ?_
    refine j_iconst C (v := 1) dX2_later_32 rfl ?_
    refine j_iadd C dX2_later_33 ?_
    obtain ⟨v5, e4, h⟩ := ob h
    refine jm_Vi hκ C (mt_m_toldAt hκ G e4) hG_m_toldAt hy_m_toldAt rfl rfl dX2_later_34 (jfit.of (Nat.le_of_ble_eq_true rfl) (by decide) (Nat.zero_le _) (Nat.zero_le _) (Nat.le_of_ble_eq_true rfl)) rfl ?_
    refine j_istore C dX2_later_37 (by decide) rfl ?_
    refine j_aload_n C dX2_later_39 rfl rfl ?_
    refine j_iload_n C dX2_later_40 rfl rfl ?_
    refine j_i2l C dX2_later_41 ?_
    obtain ⟨v7, e6, h⟩ := ob h
    refine jm_Vi hκ C (mt_m_isPost hκ G e6) hG_m_isPost hy_m_isPost rfl rfl dX2_later_42 (jfit.of (Nat.le_of_ble_eq_true rfl) (by decide) (Nat.zero_le _) (Nat.zero_le _) (Nat.le_of_ble_eq_true rfl)) rfl ?_
    refine j_if_ne C dX2_later_45 (tgt := 52) (by decide) (fun c => ?_) (fun c => ?_)
    · replace h := im c h
      refine j_iload_n C dX2_later_52 rfl rfl ?_
      refine j_if_ne C dX2_later_53 (tgt := 66) (by decide) (fun c => ?_) (fun c => ?_)
      · replace h := im c h
        refine j_aload_n C dX2_later_66 rfl rfl ?_
        refine j_iload_n C dX2_later_67 rfl rfl ?_
        refine j_iconst C (v := 2) dX2_later_68 rfl ?_
        refine j_iload_n C dX2_later_69 rfl rfl ?_
        refine j_imul C dX2_later_70 ?_
        refine j_iconst C (v := 2) dX2_later_71 rfl ?_
        refine j_isub C dX2_later_72 ?_
        obtain ⟨v9, e8, h⟩ := ob h
        refine jm_Vi hκ C (mt_m_toldAt hκ G e8) hG_m_toldAt hy_m_toldAt rfl rfl dX2_later_73 (jfit.of (Nat.le_of_ble_eq_true rfl) (by decide) (Nat.zero_le _) (Nat.zero_le _) (Nat.le_of_ble_eq_true rfl)) rfl ?_
        refine j_istore C dX2_later_76 (by decide) rfl ?_
        refine j_aload_n C dX2_later_78 rfl rfl ?_
        refine j_iload C dX2_later_79 rfl ?_
        refine j_i2l C dX2_later_81 ?_
        obtain ⟨v11, e10, h⟩ := ob h
        refine jm_Vi hκ C (mt_m_isPost hκ G e10) hG_m_isPost hy_m_isPost rfl rfl dX2_later_82 (jfit.of (Nat.le_of_ble_eq_true rfl) (by decide) (Nat.zero_le _) (Nat.zero_le _) (Nat.le_of_ble_eq_true rfl)) rfl ?_
        refine j_if_eq C dX2_later_85 (tgt := 119) (by decide) (fun c => ?_) (fun c => ?_)
        · replace h := ip c h
          refine j_sipush C (v := (-9999)) dX2_later_119 rfl ?_
          obtain rfl := sp1 h
          exact j_iret C dX2_later_122 (Nat.zero_le _) (Nat.zero_le _) ⟨rfl, rfl⟩
        replace h := im c h
        refine j_iload C dX2_later_88 rfl ?_
        refine j_aload_n C dX2_later_90 rfl rfl ?_
        refine j_iload_n C dX2_later_91 rfl rfl ?_
        refine j_iconst C (v := 2) dX2_later_92 rfl ?_
        refine j_iload_n C dX2_later_93 rfl rfl ?_
        refine j_imul C dX2_later_94 ?_
        refine j_iconst C (v := 1) dX2_later_95 rfl ?_
        refine j_isub C dX2_later_96 ?_
        obtain ⟨v13, e12, h⟩ := ob h
        refine jm_Vi hκ C (mt_m_toldAt hκ G e12) hG_m_toldAt hy_m_toldAt rfl rfl dX2_later_97 (jfit.of (Nat.le_of_ble_eq_true rfl) (by decide) (Nat.zero_le _) (Nat.zero_le _) (Nat.le_of_ble_eq_true rfl)) rfl ?_
        refine j_isub C dX2_later_100 ?_
        refine j_aload_n C dX2_later_101 rfl rfl ?_
        refine jm_geta hκ C 5 (by decide) rfl q1642 dX2_later_102 ?_
        refine j_iconst C (v := 3) dX2_later_105 rfl ?_
        refine jm_ialdK hκ C 5 3 rfl rfl (vp_k rfl) dX2_later_106 ?_
        refine j_isub C dX2_later_107 ?_
        refine j_aload_n C dX2_later_108 rfl rfl ?_
        refine j_iload C dX2_later_109 rfl ?_
        refine j_iload_n C dX2_later_111 rfl rfl ?_
        obtain ⟨v15, e14, h⟩ := ob h
        refine jm_Vi hκ C (mt_m_minutes hκ G e14) hG_m_minutes hy_m_minutes rfl rfl dX2_later_112 (jfit.of (Nat.le_of_ble_eq_true rfl) (by decide) (Nat.zero_le _) (Nat.zero_le _) (Nat.le_of_ble_eq_true rfl)) rfl ?_
        refine j_isub C dX2_later_115 ?_
        refine j_goto C dX2_later_116 (tgt := 122) (by decide) ?_
        obtain rfl := sp1 h
        exact j_iret C dX2_later_122 (Nat.zero_le _) (Nat.zero_le _) ⟨rfl, rfl⟩
      replace h := ip c h
      refine j_iload C dX2_later_56 rfl ?_
      refine j_aload_n C dX2_later_58 rfl rfl ?_
      refine j_iconst C (v := (-1)) dX2_later_59 rfl ?_
      refine j_iload_n C dX2_later_60 rfl rfl ?_
      obtain ⟨v17, e16, h⟩ := ob h
      refine jm_Vi hκ C (mt_m_minutes hκ G e16) hG_m_minutes hy_m_minutes rfl rfl dX2_later_61 (jfit.of (Nat.le_of_ble_eq_true rfl) (by decide) (Nat.zero_le _) (Nat.zero_le _) (Nat.le_of_ble_eq_true rfl)) rfl ?_
      refine j_isub C dX2_later_64 ?_
      obtain rfl := sp1 h
      exact j_iret C dX2_later_65 (Nat.zero_le _) (Nat.zero_le _) ⟨rfl, rfl⟩
    replace h := ip c h
    refine j_sipush C (v := (-9999)) dX2_later_48 rfl ?_
    obtain rfl := sp1 h
    exact j_iret C dX2_later_51 (Nat.zero_le _) (Nat.zero_le _) ⟨rfl, rfl⟩
  replace h := im c h
  refine j_sipush C (v := (-9999)) dX2_later_14 rfl ?_
  obtain rfl := sp1 h
  exact j_iret C dX2_later_17 (Nat.zero_le _) (Nat.zero_le _) ⟨rfl, rfl⟩
/-! paper -/
def m_paper_b92 (N : Nat) (T : MS) (l1 : Int32) (l2 : Int32) (l4 : Int32) (l5 : Int32) (l6 : Int32) (l7 : Int32) (l8 : Int32) (l9 : Int32) (l10 : Int32) (k51 : Int32 → Int32 → Int32 → Int32 → Int32 → Int32 → Option Int32) : Option Int32 :=
  (if l4 = (-2) then
  nm (l5 + l10) fun x1 =>
  (if l6 < l10 then
  nm (l9 + 1) fun x2 =>
  k51 l4 x1 l10 l9 l8 x2
  else
  nm (l9 + 1) fun x3 =>
  k51 l4 x1 l6 l7 l8 x3)
  else
  nm (l9 + 1) fun x4 =>
  k51 l4 l5 l6 l7 l8 x4)
theorem wm_paper_b92 {κ : jK} (hκ : jStd κ) (N : Nat) {Γ : jG} (C : jC κ Γ cX2_paper 11 RX2 (some .int)) {G : Nat → Nat} {T : MS} (l1 : Int32) (l2 : Int32) (l4 : Int32) (l5 : Int32) (l6 : Int32) (l7 : Int32) (l8 : Int32) (l9 : Int32) (l10 : Int32) (k51 : Int32 → Int32 → Int32 → Int32 → Int32 → Int32 → Option Int32) {v : Int32} (hk51 : ∀ (l4 : Int32) (l5 : Int32) (l6 : Int32) (l7 : Int32) (l8 : Int32) (l9 : Int32), k51 l4 l5 l6 l7 l8 l9 = some v → J κ Γ (4, 0, 0, (fun u w' => u = some (.int v) ∧ w' = wM κ G T)) 11 (wM κ G T) 0 0 51 [some (.ref (G 0)), some (.int l1), some (.int l2), none, some (.int l4), some (.int l5), some (.int l6), some (.int l7), some (.int l8), some (.int l9), none] []) : m_paper_b92 N T l1 l2 l4 l5 l6 l7 l8 l9 l10 k51 = some v → J κ Γ (4, 0, 0, (fun u w' => u = some (.int v) ∧ w' = wM κ G T)) 11 (wM κ G T) 0 0 92 [some (.ref (G 0)), some (.int l1), some (.int l2), none, some (.int l4), some (.int l5), some (.int l6), some (.int l7), some (.int l8), some (.int l9), some (.int l10)] [] := by
  intro  h
  rw [m_paper_b92] at h
  refine j_iload C dX2_paper_92 rfl ?_
  refine j_bipush C (v := (-2)) dX2_paper_94 rfl ?_
  refine j_icmp_eq C dX2_paper_96 (tgt := 102) (by decide) (fun c => ?_) (fun c => ?_)
  · replace h := ip c h
    refine j_iload C dX2_paper_102 rfl ?_
    refine j_iload C dX2_paper_104 rfl ?_
    refine j_iadd C dX2_paper_106 ?_
    refine j_nmI h (fun x1 h => ?_)
    refine j_istore C dX2_paper_107 (by decide) rfl ?_
    refine j_iload C dX2_paper_109 rfl ?_
    refine j_iload C dX2_paper_111 rfl ?_
    refine j_icmp_gt C dX2_paper_113 (tgt := 119) (by decide) (fun c => ?_) (fun c => ?_)
    · replace h := ip c h
      refine j_iload C dX2_paper_119 rfl ?_
      refine j_istore C dX2_paper_121 (by decide) rfl ?_
      refine j_iload C dX2_paper_123 rfl ?_
      refine j_istore C dX2_paper_125 (by decide) rfl ?_
      refine j_iincN C h dX2_paper_127 rfl rfl (by decide) rfl (fun x2 h => ?_)
      refine j_goto C dX2_paper_130 (tgt := 51) (by decide) ?_
      exact j_sub (hk51 _ _ _ _ _ _ h) ⟨rfl, ⟨rfl, ⟨rfl, ⟨rfl, ⟨rfl, ⟨rfl, ⟨rfl, ⟨rfl, ⟨rfl, trivial⟩⟩⟩⟩⟩⟩⟩⟩⟩
    replace h := im c h
    refine j_goto C dX2_paper_116 (tgt := 127) (by decide) ?_
    refine j_iincN C h dX2_paper_127 rfl rfl (by decide) rfl (fun x3 h => ?_)
    refine j_goto C dX2_paper_130 (tgt := 51) (by decide) ?_
    exact j_sub (hk51 _ _ _ _ _ _ h) ⟨rfl, ⟨rfl, ⟨rfl, ⟨rfl, ⟨rfl, ⟨rfl, ⟨rfl, ⟨rfl, ⟨rfl, trivial⟩⟩⟩⟩⟩⟩⟩⟩⟩
  replace h := im c h
  refine j_goto C dX2_paper_99 (tgt := 127) (by decide) ?_
  refine j_iincN C h dX2_paper_127 rfl rfl (by decide) rfl (fun x4 h => ?_)
  refine j_goto C dX2_paper_130 (tgt := 51) (by decide) ?_
  exact j_sub (hk51 _ _ _ _ _ _ h) ⟨rfl, ⟨rfl, ⟨rfl, ⟨rfl, ⟨rfl, ⟨rfl, ⟨rfl, ⟨rfl, ⟨rfl, trivial⟩⟩⟩⟩⟩⟩⟩⟩⟩
def m_paper_b51 (N : Nat) (T : MS) (l1 : Int32) (l2 : Int32) : Nat → Int32 → Int32 → Int32 → Int32 → Int32 → Int32 → Option Int32
  | 0, _, _, _, _, _, _ => none
  | n + 1, l4, l5, l6, l7, l8, l9 =>
    chk 6 l1 (
    (if (T.2.1 42 l1.toNatClampNeg) ≤ (2 * l9) then
    (if l2 = 0 then
    some l4
    else
    (if l2 = 1 then
    some l5
    else
    (if l2 = 2 then
    some l7
    else
    some l8)))
    else
    (m_later T l1 l9).bind fun v3 =>
    (if 0 ≤ v3 then
    m_paper_b92 N T l1 l2 l4 l5 l6 l7 l8 l9 v3 (fun y4 y5 y6 y7 y8 y9 => m_paper_b51 N T l1 l2 n y4 y5 y6 y7 y8 y9)
    else
    nm (l8 + 1) fun x4 =>
    (if l4 = (-2) then
    m_paper_b92 N T l1 l2 l9 l5 l6 l7 x4 l9 v3 (fun y4 y5 y6 y7 y8 y9 => m_paper_b51 N T l1 l2 n y4 y5 y6 y7 y8 y9)
    else
    m_paper_b92 N T l1 l2 l4 l5 l6 l7 x4 l9 v3 (fun y4 y5 y6 y7 y8 y9 => m_paper_b51 N T l1 l2 n y4 y5 y6 y7 y8 y9)))))
theorem wm_paper_b51 {κ : jK} (hκ : jStd κ) (N : Nat) {Γ : jG} (C : jC κ Γ cX2_paper 11 RX2 (some .int)) {G : Nat → Nat} {T : MS} (l1 : Int32) (l2 : Int32) {v : Int32} : ∀ (n : Nat) (l4 : Int32) (l5 : Int32) (l6 : Int32) (l7 : Int32) (l8 : Int32) (l9 : Int32), m_paper_b51 N T l1 l2 n l4 l5 l6 l7 l8 l9 = some v → J κ Γ (4, 0, 0, (fun u w' => u = some (.int v) ∧ w' = wM κ G T)) 11 (wM κ G T) 0 0 51 [some (.ref (G 0)), some (.int l1), some (.int l2), none, some (.int l4), some (.int l5), some (.int l6), some (.int l7), some (.int l8), some (.int l9), none] [] := by
  intro n
  induction n with
  | zero => intro _ _ _ _ _ _ h; cases h
  | succ n ih =>
    intro l4 l5 l6 l7 l8 l9 h
    rw [m_paper_b51] at h
    refine j_iconst C (v := 2) dX2_paper_51 rfl ?_
    refine j_iload C dX2_paper_52 rfl ?_
    refine j_imul C dX2_paper_54 ?_
    refine j_aload_n C dX2_paper_55 rfl rfl ?_
    refine jm_geta hκ C 42 (by decide) rfl q1679 dX2_paper_56 ?_
    refine j_iload_n C dX2_paper_59 rfl rfl ?_
    obtain ⟨b1, h⟩ := chk_some h
    refine jm_iald hκ C 42 rfl b1 dX2_paper_60 ?_
    refine j_icmp_ge C dX2_paper_61 (tgt := 133) (by decide) (fun c => ?_) (fun c => ?_)
    · replace h := ip c h
      refine j_iload_n C dX2_paper_133 rfl rfl ?_
      refine j_if_ne C dX2_paper_134 (tgt := 142) (by decide) (fun c => ?_) (fun c => ?_)
      · replace h := im c h
        refine j_iload_n C dX2_paper_142 rfl rfl ?_
        refine j_iconst C (v := 1) dX2_paper_143 rfl ?_
        refine j_icmp_ne C dX2_paper_144 (tgt := 152) (by decide) (fun c => ?_) (fun c => ?_)
        · replace h := im c h
          refine j_iload_n C dX2_paper_152 rfl rfl ?_
          refine j_iconst C (v := 2) dX2_paper_153 rfl ?_
          refine j_icmp_ne C dX2_paper_154 (tgt := 162) (by decide) (fun c => ?_) (fun c => ?_)
          · replace h := im c h
            refine j_iload C dX2_paper_162 rfl ?_
            obtain rfl := sp1 h
            exact j_iret C dX2_paper_164 (Nat.zero_le _) (Nat.zero_le _) ⟨rfl, rfl⟩
          replace h := ip c h
          refine j_iload C dX2_paper_157 rfl ?_
          refine j_goto C dX2_paper_159 (tgt := 164) (by decide) ?_
          obtain rfl := sp1 h
          exact j_iret C dX2_paper_164 (Nat.zero_le _) (Nat.zero_le _) ⟨rfl, rfl⟩
        replace h := ip c h
        refine j_iload C dX2_paper_147 rfl ?_
        refine j_goto C dX2_paper_149 (tgt := 164) (by decide) ?_
        obtain rfl := sp1 h
        exact j_iret C dX2_paper_164 (Nat.zero_le _) (Nat.zero_le _) ⟨rfl, rfl⟩
      replace h := ip c h
      refine j_iload C dX2_paper_137 rfl ?_
      refine j_goto C dX2_paper_139 (tgt := 164) (by decide) ?_
      obtain rfl := sp1 h
      exact j_iret C dX2_paper_164 (Nat.zero_le _) (Nat.zero_le _) ⟨rfl, rfl⟩
    replace h := im c h
    refine j_aload_n C dX2_paper_64 rfl rfl ?_
    refine j_iload_n C dX2_paper_65 rfl rfl ?_
    refine j_iload C dX2_paper_66 rfl ?_
    obtain ⟨v3, e2, h⟩ := ob h
    refine jm_Vi hκ C (mt_m_later hκ G e2) hG_m_later hy_m_later rfl rfl dX2_paper_68 (jfit.of (Nat.le_of_ble_eq_true rfl) (by decide) (Nat.zero_le _) (Nat.zero_le _) (Nat.le_of_ble_eq_true rfl)) rfl ?_
    refine j_istore C dX2_paper_71 (by decide) rfl ?_
    refine j_iload C dX2_paper_73 rfl ?_
    refine j_if_ge C dX2_paper_75 (tgt := 92) (by decide) (fun c => ?_) (fun c => ?_)
    · replace h := ip c h
      exact j_sub (wm_paper_b92 hκ N C _ _ _ _ _ _ _ _ _ _ (fun _ _ _ _ _ _ h => ih _ _ _ _ _ _ h) h) ⟨rfl, ⟨rfl, ⟨rfl, ⟨rfl, ⟨rfl, ⟨rfl, ⟨rfl, ⟨rfl, ⟨rfl, ⟨rfl, trivial⟩⟩⟩⟩⟩⟩⟩⟩⟩⟩
    replace h := im c h
    refine j_iincN C h dX2_paper_78 rfl rfl (by decide) rfl (fun x4 h => ?_)
    refine j_iload C dX2_paper_81 rfl ?_
    refine j_bipush C (v := (-2)) dX2_paper_83 rfl ?_
    refine j_icmp_ne C dX2_paper_85 (tgt := 92) (by decide) (fun c => ?_) (fun c => ?_)
    · replace h := im c h
      exact j_sub (wm_paper_b92 hκ N C _ _ _ _ _ _ _ _ _ _ (fun _ _ _ _ _ _ h => ih _ _ _ _ _ _ h) h) ⟨rfl, ⟨rfl, ⟨rfl, ⟨rfl, ⟨rfl, ⟨rfl, ⟨rfl, ⟨rfl, ⟨rfl, ⟨rfl, trivial⟩⟩⟩⟩⟩⟩⟩⟩⟩⟩
    replace h := ip c h
    refine j_iload C dX2_paper_88 rfl ?_
    refine j_istore C dX2_paper_90 (by decide) rfl ?_
    exact j_sub (wm_paper_b92 hκ N C _ _ _ _ _ _ _ _ _ _ (fun _ _ _ _ _ _ h => ih _ _ _ _ _ _ h) h) ⟨rfl, ⟨rfl, ⟨rfl, ⟨rfl, ⟨rfl, ⟨rfl, ⟨rfl, ⟨rfl, ⟨rfl, ⟨rfl, trivial⟩⟩⟩⟩⟩⟩⟩⟩⟩⟩
def m_paper (N : Nat) (T : MS) (p1 : Int32) (p2 : Int32) : Option Int32 :=
  (m_isShelf p1).bind fun v2 =>
  (if (b2i v2) = 0 then
  some (-1)
  else
  (m_within p2 0 3).bind fun v4 =>
  (if (b2i v4) = 0 then
  some (-1)
  else
  (m_noRow T p1 1).bind fun v6 =>
  (if 0 ≤ v6 then
  m_paper_b51 N T p1 p2 N (-2) 0 0 (-2) 0 0
  else
  some v6)))
theorem mt_m_paper {κ : jK} (hκ : jStd κ) (N : Nat) (G : Nat → Nat) {T : MS} {p1 : Int32} {p2 : Int32} {v : Int32} (h : m_paper N T p1 p2 = some v) : jM κ yX2_paper (ws_ yX2_paper cX2_paper 11 (some .int)) 4 0 0 [.ref (G 0), .int p1, .int p2] (wM κ G T) (fun u w' => u = some (.int v) ∧ w' = wM κ G T) := by
  rw [m_paper] at h
  refine jM.of (by decide) rfl (Nat.le_of_ble_eq_true rfl) fun Γ C _ => ?_
  show J κ Γ (4, 0, 0, (fun u w' => u = some (.int v) ∧ w' = wM κ G T)) 11 (wM κ G T) 0 0 0 [some (.ref (G 0)), some (.int p1), some (.int p2), none, none, none, none, none, none, none, none] []
  refine j_iload_n C dX2_paper_0 rfl rfl ?_
  obtain ⟨v2, e1, h⟩ := ob h
  refine j_Si hκ.1 C (mt_m_isShelf hκ e1) hG_m_isShelf hy_m_isShelf rfl dX2_paper_1 (jfit.of (Nat.le_of_ble_eq_true rfl) (by decide) (Nat.zero_le _) (Nat.zero_le _) (Nat.le_of_ble_eq_true rfl)) rfl ?_
  refine j_if_eq C dX2_paper_4 (tgt := 16) (by decide) (fun c => ?_) (fun c => ?_)
  · replace h := ip c h
    refine j_iconst C (v := (-1)) dX2_paper_16 rfl ?_
    obtain rfl := sp1 h
    exact j_iret C dX2_paper_17 (Nat.zero_le _) (Nat.zero_le _) ⟨rfl, rfl⟩
  replace h := im c h
  refine j_iload_n C dX2_paper_7 rfl rfl ?_
  refine j_iconst C (v := 0) dX2_paper_8 rfl ?_
  refine j_iconst C (v := 3) dX2_paper_9 rfl ?_
  obtain ⟨v4, e3, h⟩ := ob h
  refine j_Si hκ.1 C (mt_m_within hκ e3) hG_m_within hy_m_within rfl dX2_paper_10 (jfit.of (Nat.le_of_ble_eq_true rfl) (by decide) (Nat.zero_le _) (Nat.zero_le _) (Nat.le_of_ble_eq_true rfl)) rfl ?_
  refine j_if_ne C dX2_paper_13 (tgt := 18) (by decide) (fun c => ?_) (fun c => ?_)
  · replace h := im c h
    refine j_aload_n C dX2_paper_18 rfl rfl ?_
    refine j_iload_n C dX2_paper_19 rfl rfl ?_
    refine j_iconst C (v := 1) dX2_paper_20 rfl ?_
    obtain ⟨v6, e5, h⟩ := ob h
    refine jm_Vi hκ C (mt_m_noRow hκ G e5) hG_m_noRow hy_m_noRow rfl rfl dX2_paper_21 (jfit.of (Nat.le_of_ble_eq_true rfl) (by decide) (Nat.zero_le _) (Nat.zero_le _) (Nat.le_of_ble_eq_true rfl)) rfl ?_
    refine j_istore_n C dX2_paper_24 rfl (by decide) rfl ?_
    refine j_iload_n C dX2_paper_25 rfl rfl ?_
    refine j_if_ge C dX2_paper_26 (tgt := 31) (by decide) (fun c => ?_) (fun c => ?_)
    · replace h := ip c h
      refine j_bipush C (v := (-2)) dX2_paper_31 rfl ?_
      refine j_istore C dX2_paper_33 (by decide) rfl ?_
      refine j_iconst C (v := 0) dX2_paper_35 rfl ?_
      refine j_istore C dX2_paper_36 (by decide) rfl ?_
      refine j_iconst C (v := 0) dX2_paper_38 rfl ?_
      refine j_istore C dX2_paper_39 (by decide) rfl ?_
      refine j_bipush C (v := (-2)) dX2_paper_41 rfl ?_
      refine j_istore C dX2_paper_43 (by decide) rfl ?_
      refine j_iconst C (v := 0) dX2_paper_45 rfl ?_
      refine j_istore C dX2_paper_46 (by decide) rfl ?_
      refine j_iconst C (v := 0) dX2_paper_48 rfl ?_
      refine j_istore C dX2_paper_49 (by decide) rfl ?_
      exact j_sub (wm_paper_b51 hκ N C _ _ N _ _ _ _ _ _ h) ⟨rfl, ⟨rfl, ⟨rfl, ⟨rfl, ⟨rfl, ⟨rfl, ⟨rfl, ⟨rfl, ⟨rfl, trivial⟩⟩⟩⟩⟩⟩⟩⟩⟩
    replace h := im c h
    refine j_iload_n C dX2_paper_29 rfl rfl ?_
    obtain rfl := sp1 h
    exact j_iret C dX2_paper_30 (Nat.zero_le _) (Nat.zero_le _) ⟨rfl, rfl⟩
  replace h := ip c h
  refine j_iconst C (v := (-1)) dX2_paper_16 rfl ?_
  obtain rfl := sp1 h
  exact j_iret C dX2_paper_17 (Nat.zero_le _) (Nat.zero_le _) ⟨rfl, rfl⟩
