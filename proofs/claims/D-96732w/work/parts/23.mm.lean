set_option maxRecDepth 100000
/-! isPaper -/
def m_isPaper_b8 (N : Nat) (l1 : Int32) : Nat → MS → Int32 → Option (Bool × MS)
  | 0, _, _ => none
  | n + 1, T, l2 =>
    chk 6 l1 (
    (if (T.2.1 42 l1.toNatClampNeg) ≤ (2 * l2) then
    some (true, T)
    else
    chk 6 l1 (
    (if (T.2.1 42 l1.toNatClampNeg) ≤ ((2 * l2) + 1) then
    some (false, T)
    else
    (if l2 < (T.1 46) then
    (m_toldAt T l1 (2 * l2)).bind fun v4 =>
    chk 4000 l2 (
    (if v4 = (T.2.1 48 l2.toNatClampNeg) then
    (m_toldAt T l1 ((2 * l2) + 1)).bind fun v7 =>
    chk 4000 l2 (
    (if v7 = (T.2.1 47 l2.toNatClampNeg) then
    nm (l2 + 1) fun x9 =>
    m_isPaper_b8 N l1 n T x9
    else
    some (false, T)))
    else
    some (false, T)))
    else
    some (false, T))))))
theorem wm_isPaper_b8 {κ : jK} (hκ : jStd κ) (N : Nat) {Γ : jG} (C : jC κ Γ cX2_isPaper 3 RX2 (some .boolean)) {G : Nat → Nat} (l1 : Int32) {v : Bool} {T' : MS} : ∀ (n : Nat) (T : MS) (l2 : Int32), m_isPaper_b8 N l1 n T l2 = some (v, T') → J κ Γ (4, 0, 0, (fun u w' => u = some (.int (b2i v)) ∧ w' = wM κ G T')) 3 (wM κ G T) 0 0 8 [some (.ref (G 0)), some (.int l1), some (.int l2)] [] := by
  intro n
  induction n with
  | zero => intro _ _ h; cases h
  | succ n ih =>
    intro T l2 h
    rw [m_isPaper_b8] at h
    refine j_iconst C (v := 2) dX2_isPaper_8 rfl ?_
    refine j_iload_n C dX2_isPaper_9 rfl rfl ?_
    refine j_imul C dX2_isPaper_10 ?_
    refine j_aload_n C dX2_isPaper_11 rfl rfl ?_
    refine jm_geta hκ C 42 (by decide) rfl q1679 dX2_isPaper_12 ?_
    refine j_iload_n C dX2_isPaper_15 rfl rfl ?_
    obtain ⟨b1, h⟩ := chk_some h
    refine jm_iald hκ C 42 rfl b1 dX2_isPaper_16 ?_
    refine j_icmp_ge C dX2_isPaper_17 (tgt := 88) (by decide) (fun c => ?_) (fun c => ?_)
    · replace h := ip c h
      refine j_iconst C (v := 1) dX2_isPaper_88 rfl ?_
      obtain ⟨rfl, rfl⟩ := sp2 h
      exact j_zret C rfl dX2_isPaper_89 (Nat.zero_le _) (Nat.zero_le _) ⟨rfl, rfl⟩
    replace h := im c h
    refine j_iconst C (v := 2) dX2_isPaper_20 rfl ?_
    refine j_iload_n C dX2_isPaper_21 rfl rfl ?_
    refine j_imul C dX2_isPaper_22 ?_
    refine j_iconst C (v := 1) dX2_isPaper_23 rfl ?_
    refine j_iadd C dX2_isPaper_24 ?_
    refine j_aload_n C dX2_isPaper_25 rfl rfl ?_
    refine jm_geta hκ C 42 (by decide) rfl q1679 dX2_isPaper_26 ?_
    refine j_iload_n C dX2_isPaper_29 rfl rfl ?_
    obtain ⟨b2, h⟩ := chk_some h
    refine jm_iald hκ C 42 rfl b2 dX2_isPaper_30 ?_
    refine j_icmp_ge C dX2_isPaper_31 (tgt := 42) (by decide) (fun c => ?_) (fun c => ?_)
    · replace h := ip c h
      refine j_iconst C (v := 0) dX2_isPaper_42 rfl ?_
      obtain ⟨rfl, rfl⟩ := sp2 h
      exact j_zret C rfl dX2_isPaper_43 (Nat.zero_le _) (Nat.zero_le _) ⟨rfl, rfl⟩
    replace h := im c h
    refine j_iload_n C dX2_isPaper_34 rfl rfl ?_
    refine j_aload_n C dX2_isPaper_35 rfl rfl ?_
    refine jm_geti hκ C 46 (by decide) rfl q1683 dX2_isPaper_36 ?_
    refine j_icmp_lt C dX2_isPaper_39 (tgt := 44) (by decide) (fun c => ?_) (fun c => ?_)
    · replace h := ip c h
      refine j_aload_n C dX2_isPaper_44 rfl rfl ?_
      refine j_iload_n C dX2_isPaper_45 rfl rfl ?_
      refine j_iconst C (v := 2) dX2_isPaper_46 rfl ?_
      refine j_iload_n C dX2_isPaper_47 rfl rfl ?_
      refine j_imul C dX2_isPaper_48 ?_
      obtain ⟨v4, e3, h⟩ := ob h
      refine jm_Vi hκ C (mt_m_toldAt hκ G e3) hG_m_toldAt hy_m_toldAt rfl rfl dX2_isPaper_49 (jfit.of (Nat.le_of_ble_eq_true rfl) (by decide) (Nat.zero_le _) (Nat.zero_le _) (Nat.le_of_ble_eq_true rfl)) rfl ?_
      refine j_aload_n C dX2_isPaper_52 rfl rfl ?_
      refine jm_geta hκ C 48 (by decide) rfl q1685 dX2_isPaper_53 ?_
      refine j_iload_n C dX2_isPaper_56 rfl rfl ?_
      obtain ⟨b5, h⟩ := chk_some h
      refine jm_iald hκ C 48 rfl b5 dX2_isPaper_57 ?_
      refine j_icmp_ne C dX2_isPaper_58 (tgt := 80) (by decide) (fun c => ?_) (fun c => ?_)
      · replace h := im c h
        refine j_iconst C (v := 0) dX2_isPaper_80 rfl ?_
        obtain ⟨rfl, rfl⟩ := sp2 h
        exact j_zret C rfl dX2_isPaper_81 (Nat.zero_le _) (Nat.zero_le _) ⟨rfl, rfl⟩
      replace h := ip c h
      refine j_aload_n C dX2_isPaper_61 rfl rfl ?_
      refine j_iload_n C dX2_isPaper_62 rfl rfl ?_
      refine j_iconst C (v := 2) dX2_isPaper_63 rfl ?_
      refine j_iload_n C dX2_isPaper_64 rfl rfl ?_
      refine j_imul C dX2_isPaper_65 ?_
      refine j_iconst C (v := 1) dX2_isPaper_66 rfl ?_
      refine j_iadd C dX2_isPaper_67 ?_
      obtain ⟨v7, e6, h⟩ := ob h
      refine jm_Vi hκ C (mt_m_toldAt hκ G e6) hG_m_toldAt hy_m_toldAt rfl rfl dX2_isPaper_68 (jfit.of (Nat.le_of_ble_eq_true rfl) (by decide) (Nat.zero_le _) (Nat.zero_le _) (Nat.le_of_ble_eq_true rfl)) rfl ?_
      refine j_aload_n C dX2_isPaper_71 rfl rfl ?_
      refine jm_geta hκ C 47 (by decide) rfl q1684 dX2_isPaper_72 ?_
      refine j_iload_n C dX2_isPaper_75 rfl rfl ?_
      obtain ⟨b8, h⟩ := chk_some h
      refine jm_iald hκ C 47 rfl b8 dX2_isPaper_76 ?_
      refine j_icmp_eq C dX2_isPaper_77 (tgt := 82) (by decide) (fun c => ?_) (fun c => ?_)
      · replace h := ip c h
        refine j_iincN C h dX2_isPaper_82 rfl rfl (by decide) rfl (fun x9 h => ?_)
        refine j_goto C dX2_isPaper_85 (tgt := 8) (by decide) ?_
        exact j_sub (ih _ _ h) ⟨rfl, ⟨rfl, ⟨rfl, trivial⟩⟩⟩
      replace h := im c h
      refine j_iconst C (v := 0) dX2_isPaper_80 rfl ?_
      obtain ⟨rfl, rfl⟩ := sp2 h
      exact j_zret C rfl dX2_isPaper_81 (Nat.zero_le _) (Nat.zero_le _) ⟨rfl, rfl⟩
    replace h := im c h
    refine j_iconst C (v := 0) dX2_isPaper_42 rfl ?_
    obtain ⟨rfl, rfl⟩ := sp2 h
    exact j_zret C rfl dX2_isPaper_43 (Nat.zero_le _) (Nat.zero_le _) ⟨rfl, rfl⟩
def m_isPaper (N : Nat) (T : MS) (p1 : Int32) : Option (Bool × MS) :=
  (m_walks N T 30).bind fun T3 =>
  m_isPaper_b8 N p1 N T3 0
theorem mt_m_isPaper {κ : jK} (hκ : jStd κ) (N : Nat) (G : Nat → Nat) {T : MS} {p1 : Int32} {v : Bool} {T' : MS} (h : m_isPaper N T p1 = some (v, T')) : jM κ yX2_isPaper (ws_ yX2_isPaper cX2_isPaper 3 (some .boolean)) 4 0 0 [.ref (G 0), .int p1] (wM κ G T) (fun u w' => u = some (.int (b2i v)) ∧ w' = wM κ G T') := by
  rw [m_isPaper] at h
  refine jM.of (by decide) rfl (Nat.le_of_ble_eq_true rfl) fun Γ C _ => ?_
  show J κ Γ (4, 0, 0, (fun u w' => u = some (.int (b2i v)) ∧ w' = wM κ G T')) 3 (wM κ G T) 0 0 0 [some (.ref (G 0)), some (.int p1), none] []
  refine j_aload_n C dX2_isPaper_0 rfl rfl ?_
  refine j_bipush C (v := 30) dX2_isPaper_1 rfl ?_
  obtain ⟨T3, e1, h⟩ := ob h
  refine jm_Vv hκ C (mt_m_walks hκ N G e1) hG_m_walks hy_m_walks rfl rfl dX2_isPaper_3 (jfit.of (Nat.le_of_ble_eq_true rfl) (by decide) (Nat.zero_le _) (Nat.zero_le _) (Nat.le_of_ble_eq_true rfl)) rfl ?_
  refine j_iconst C (v := 0) dX2_isPaper_6 rfl ?_
  refine j_istore_n C dX2_isPaper_7 rfl (by decide) rfl ?_
  exact j_sub (wm_isPaper_b8 hκ N C _ N _ _ h) ⟨rfl, ⟨rfl, ⟨rfl, trivial⟩⟩⟩
/-! which -/
def m_which_b107 (N : Nat) (l1 : Int32) (T : MS) (s1 : Int32) : Option (Int32 × MS) :=
  (m_turns N T).bind fun T3 =>
  b2 (m_isPaper N T3 (jrem l1 10)) fun v5 T6 =>
  (if (b2i v5) = 0 then
  some ((s1 + 0), T6)
  else
  some ((s1 + 2), T6))
theorem wm_which_b107 {κ : jK} (hκ : jStd κ) (N : Nat) {Γ : jG} (C : jC κ Γ cX2_which 3 RX2 (some .int)) {G : Nat → Nat} (l1 : Int32) {v : Int32} {T' : MS} : ∀ (T : MS) (s1 : Int32), m_which_b107 N l1 T s1 = some (v, T') → J κ Γ (5, 0, 0, (fun u w' => u = some (.int v) ∧ w' = wM κ G T')) 3 (wM κ G T) 0 0 107 [some (.ref (G 0)), some (.int l1), none] [.int s1] := by
  intro T s1 h
  rw [m_which_b107] at h
  refine j_istore_n C dX2_which_107 rfl (by decide) rfl ?_
  refine j_aload_n C dX2_which_108 rfl rfl ?_
  obtain ⟨T3, e1, h⟩ := ob h
  refine jm_Vv hκ C (mt_m_turns hκ N G e1) hG_m_turns hy_m_turns rfl rfl dX2_which_109 (jfit.of (Nat.le_of_ble_eq_true rfl) (by decide) (Nat.zero_le _) (Nat.zero_le _) (Nat.le_of_ble_eq_true rfl)) rfl ?_
  refine j_iload_n C dX2_which_112 rfl rfl ?_
  refine j_aload_n C dX2_which_113 rfl rfl ?_
  refine j_iload_n C dX2_which_114 rfl rfl ?_
  refine j_bipush C (v := 10) dX2_which_115 rfl ?_
  refine j_irem C dX2_which_117 (by decide) ?_
  obtain ⟨v5, T6, e4, h⟩ := ob2 h
  refine jm_Vi hκ C (mt_m_isPaper hκ N G e4) hG_m_isPaper hy_m_isPaper rfl rfl dX2_which_118 (jfit.of (Nat.le_of_ble_eq_true rfl) (by decide) (Nat.zero_le _) (Nat.zero_le _) (Nat.le_of_ble_eq_true rfl)) rfl ?_
  refine j_if_eq C dX2_which_121 (tgt := 128) (by decide) (fun c => ?_) (fun c => ?_)
  · replace h := ip c h
    refine j_iconst C (v := 0) dX2_which_128 rfl ?_
    refine j_iadd C dX2_which_129 ?_
    obtain ⟨rfl, rfl⟩ := sp2 h
    exact j_iret C dX2_which_130 (Nat.zero_le _) (Nat.zero_le _) ⟨rfl, rfl⟩
  replace h := im c h
  refine j_iconst C (v := 2) dX2_which_124 rfl ?_
  refine j_goto C dX2_which_125 (tgt := 129) (by decide) ?_
  refine j_iadd C dX2_which_129 ?_
  obtain ⟨rfl, rfl⟩ := sp2 h
  exact j_iret C dX2_which_130 (Nat.zero_le _) (Nat.zero_le _) ⟨rfl, rfl⟩
def m_which (N : Nat) (T : MS) (p1 : Int32) : Option (Int32 × MS) :=
  (if p1 < 0 then
  some ((-1), T)
  else
  (m_isShelf (p1 / 10)).bind fun v2 =>
  (if (b2i v2) = 0 then
  some ((-1), T)
  else
  (m_isShelf (jrem p1 10)).bind fun v4 =>
  (if (b2i v4) = 0 then
  some ((-1), T)
  else
  chk 6 (p1 / 10) (
  (if (T.2.1 41 (p1 / 10).toNatClampNeg) = (-1) then
  some ((-11), T)
  else
  chk 6 (jrem p1 10) (
  (if (T.2.1 41 (jrem p1 10).toNatClampNeg) = (-1) then
  some ((-11), T)
  else
  chk 6 (p1 / 10) (
  (if (T.2.1 41 (p1 / 10).toNatClampNeg) = 0 then
  chk 6 (jrem p1 10) (
  (if (T.2.1 41 (jrem p1 10).toNatClampNeg) = 1 then
  (m_reads N T (p1 / 10)).bind fun T11 =>
  b2 (m_isPaper N T11 (jrem p1 10)) fun v13 T14 =>
  (if (b2i v13) = 0 then
  m_which_b107 N p1 T14 0
  else
  m_which_b107 N p1 T14 1)
  else
  some ((-12), T)))
  else
  some ((-12), T))))))))))
theorem mt_m_which {κ : jK} (hκ : jStd κ) (N : Nat) (G : Nat → Nat) {T : MS} {p1 : Int32} {v : Int32} {T' : MS} (h : m_which N T p1 = some (v, T')) : jM κ yX2_which (ws_ yX2_which cX2_which 3 (some .int)) 5 0 0 [.ref (G 0), .int p1] (wM κ G T) (fun u w' => u = some (.int v) ∧ w' = wM κ G T') := by
  rw [m_which] at h
  refine jM.of (by decide) rfl (Nat.le_of_ble_eq_true rfl) fun Γ C _ => ?_
  show J κ Γ (5, 0, 0, (fun u w' => u = some (.int v) ∧ w' = wM κ G T')) 3 (wM κ G T) 0 0 0 [some (.ref (G 0)), some (.int p1), none] []
  refine j_iload_n C dX2_which_0 rfl rfl ?_
  refine j_if_lt C dX2_which_1 (tgt := 24) (by decide) (fun c => ?_) (fun c => ?_)
  · replace h := ip c h
    refine j_iconst C (v := (-1)) dX2_which_24 rfl ?_
    obtain ⟨rfl, rfl⟩ := sp2 h
    exact j_iret C dX2_which_25 (Nat.zero_le _) (Nat.zero_le _) ⟨rfl, rfl⟩
  replace h := im c h
  refine j_iload_n C dX2_which_4 rfl rfl ?_
  refine j_bipush C (v := 10) dX2_which_5 rfl ?_
  refine j_idiv C dX2_which_7 (by decide) ?_
  obtain ⟨v2, e1, h⟩ := ob h
  refine j_Si hκ.1 C (mt_m_isShelf hκ e1) hG_m_isShelf hy_m_isShelf rfl dX2_which_8 (jfit.of (Nat.le_of_ble_eq_true rfl) (by decide) (Nat.zero_le _) (Nat.zero_le _) (Nat.le_of_ble_eq_true rfl)) rfl ?_
  refine j_if_eq C dX2_which_11 (tgt := 24) (by decide) (fun c => ?_) (fun c => ?_)
  · replace h := ip c h
    refine j_iconst C (v := (-1)) dX2_which_24 rfl ?_
    obtain ⟨rfl, rfl⟩ := sp2 h
    exact j_iret C dX2_which_25 (Nat.zero_le _) (Nat.zero_le _) ⟨rfl, rfl⟩
  replace h := im c h
  refine j_iload_n C dX2_which_14 rfl rfl ?_
  refine j_bipush C (v := 10) dX2_which_15 rfl ?_
  refine j_irem C dX2_which_17 (by decide) ?_
  obtain ⟨v4, e3, h⟩ := ob h
  refine j_Si hκ.1 C (mt_m_isShelf hκ e3) hG_m_isShelf hy_m_isShelf rfl dX2_which_18 (jfit.of (Nat.le_of_ble_eq_true rfl) (by decide) (Nat.zero_le _) (Nat.zero_le _) (Nat.le_of_ble_eq_true rfl)) rfl ?_
  refine j_if_ne C dX2_which_21 (tgt := 26) (by decide) (fun c => ?_) (fun c => ?_)
  · replace h := im c h
    refine j_aload_n C dX2_which_26 rfl rfl ?_
    refine jm_geta hκ C 41 (by decide) rfl q1678 dX2_which_27 ?_
    refine j_iload_n C dX2_which_30 rfl rfl ?_
    refine j_bipush C (v := 10) dX2_which_31 rfl ?_
    refine j_idiv C dX2_which_33 (by decide) ?_
    obtain ⟨b5, h⟩ := chk_some h
    refine jm_iald hκ C 41 rfl b5 dX2_which_34 ?_
    refine j_iconst C (v := (-1)) dX2_which_35 rfl ?_
    refine j_icmp_eq C dX2_which_36 (tgt := 52) (by decide) (fun c => ?_) (fun c => ?_)
    · replace h := ip c h
      refine j_bipush C (v := (-11)) dX2_which_52 rfl ?_
      obtain ⟨rfl, rfl⟩ := sp2 h
      exact j_iret C dX2_which_54 (Nat.zero_le _) (Nat.zero_le _) ⟨rfl, rfl⟩
    replace h := im c h
    refine j_aload_n C dX2_which_39 rfl rfl ?_
    refine jm_geta hκ C 41 (by decide) rfl q1678 dX2_which_40 ?_
    refine j_iload_n C dX2_which_43 rfl rfl ?_
    refine j_bipush C (v := 10) dX2_which_44 rfl ?_
    refine j_irem C dX2_which_46 (by decide) ?_
    obtain ⟨b6, h⟩ := chk_some h
    refine jm_iald hκ C 41 rfl b6 dX2_which_47 ?_
    refine j_iconst C (v := (-1)) dX2_which_48 rfl ?_
    refine j_icmp_ne C dX2_which_49 (tgt := 55) (by decide) (fun c => ?_) (fun c => ?_)
    · replace h := im c h
      refine j_aload_n C dX2_which_55 rfl rfl ?_
      refine jm_geta hκ C 41 (by decide) rfl q1678 dX2_which_56 ?_
      refine j_iload_n C dX2_which_59 rfl rfl ?_
      refine j_bipush C (v := 10) dX2_which_60 rfl ?_
      refine j_idiv C dX2_which_62 (by decide) ?_
      obtain ⟨b7, h⟩ := chk_some h
      refine jm_iald hκ C 41 rfl b7 dX2_which_63 ?_
      refine j_if_ne C dX2_which_64 (tgt := 80) (by decide) (fun c => ?_) (fun c => ?_)
      · replace h := im c h
        refine j_bipush C (v := (-12)) dX2_which_80 rfl ?_
        obtain ⟨rfl, rfl⟩ := sp2 h
        exact j_iret C dX2_which_82 (Nat.zero_le _) (Nat.zero_le _) ⟨rfl, rfl⟩
      replace h := ip c h
      refine j_aload_n C dX2_which_67 rfl rfl ?_
      refine jm_geta hκ C 41 (by decide) rfl q1678 dX2_which_68 ?_
      refine j_iload_n C dX2_which_71 rfl rfl ?_
      refine j_bipush C (v := 10) dX2_which_72 rfl ?_
      refine j_irem C dX2_which_74 (by decide) ?_
      obtain ⟨b8, h⟩ := chk_some h
      refine jm_iald hκ C 41 rfl b8 dX2_which_75 ?_
      refine j_iconst C (v := 1) dX2_which_76 rfl ?_
      refine j_icmp_eq C dX2_which_77 (tgt := 83) (by decide) (fun c => ?_) (fun c => ?_)
      · replace h := ip c h
        refine j_aload_n C dX2_which_83 rfl rfl ?_
        refine j_iload_n C dX2_which_84 rfl rfl ?_
        refine j_bipush C (v := 10) dX2_which_85 rfl ?_
        refine j_idiv C dX2_which_87 (by decide) ?_
        obtain ⟨T11, e9, h⟩ := ob h
        refine jm_Vv hκ C (mt_m_reads hκ N G e9) hG_m_reads hy_m_reads rfl rfl dX2_which_88 (jfit.of (Nat.le_of_ble_eq_true rfl) (by decide) (Nat.zero_le _) (Nat.zero_le _) (Nat.le_of_ble_eq_true rfl)) rfl ?_
        refine j_aload_n C dX2_which_91 rfl rfl ?_
        refine j_iload_n C dX2_which_92 rfl rfl ?_
        refine j_bipush C (v := 10) dX2_which_93 rfl ?_
        refine j_irem C dX2_which_95 (by decide) ?_
        obtain ⟨v13, T14, e12, h⟩ := ob2 h
        refine jm_Vi hκ C (mt_m_isPaper hκ N G e12) hG_m_isPaper hy_m_isPaper rfl rfl dX2_which_96 (jfit.of (Nat.le_of_ble_eq_true rfl) (by decide) (Nat.zero_le _) (Nat.zero_le _) (Nat.le_of_ble_eq_true rfl)) rfl ?_
        refine j_if_eq C dX2_which_99 (tgt := 106) (by decide) (fun c => ?_) (fun c => ?_)
        · replace h := ip c h
          refine j_iconst C (v := 0) dX2_which_106 rfl ?_
          exact j_sub (wm_which_b107 hκ N C _ _ _ h) ⟨rfl, ⟨rfl, trivial⟩⟩
        replace h := im c h
        refine j_iconst C (v := 1) dX2_which_102 rfl ?_
        refine j_goto C dX2_which_103 (tgt := 107) (by decide) ?_
        exact j_sub (wm_which_b107 hκ N C _ _ _ h) ⟨rfl, ⟨rfl, trivial⟩⟩
      replace h := im c h
      refine j_bipush C (v := (-12)) dX2_which_80 rfl ?_
      obtain ⟨rfl, rfl⟩ := sp2 h
      exact j_iret C dX2_which_82 (Nat.zero_le _) (Nat.zero_le _) ⟨rfl, rfl⟩
    replace h := ip c h
    refine j_bipush C (v := (-11)) dX2_which_52 rfl ?_
    obtain ⟨rfl, rfl⟩ := sp2 h
    exact j_iret C dX2_which_54 (Nat.zero_le _) (Nat.zero_le _) ⟨rfl, rfl⟩
  replace h := ip c h
  refine j_iconst C (v := (-1)) dX2_which_24 rfl ?_
  obtain ⟨rfl, rfl⟩ := sp2 h
  exact j_iret C dX2_which_25 (Nat.zero_le _) (Nat.zero_le _) ⟨rfl, rfl⟩
/-! fit -/
def m_fit_b136 (N : Nat) (l1 : Int32) (l2 : Int32) (l4 : Int32) (k72 : MS → Int32 → Int32 → Option (Int32 × MS)) : Nat → MS → Int32 → Option (Int32 × MS)
  | 0, _, _ => none
  | n + 1, T, l6 =>
    (if (T.1 0) ≤ l6 then
    b2 (m_nextOrder N T (T.1 0)) fun v2 T3 =>
    k72 T3 l4 (b2i v2)
    else
    chk 9 l6 (
    chk 9 l6 (
    nm (sA T 53 l6.toNatClampNeg (T.2.1 52 l6.toNatClampNeg)) fun T5 =>
    nm (l6 + 1) fun x7 =>
    m_fit_b136 N l1 l2 l4 k72 n T5 x7)))
theorem wm_fit_b136 {κ : jK} (hκ : jStd κ) (N : Nat) {Γ : jG} (C : jC κ Γ cX2_fit 7 RX2 (some .int)) {G : Nat → Nat} (l1 : Int32) (l2 : Int32) (l4 : Int32) (k72 : MS → Int32 → Int32 → Option (Int32 × MS)) {v : Int32} {T' : MS} (hk72 : ∀ (T : MS) (l4 : Int32) (l5 : Int32), k72 T l4 l5 = some (v, T') → J κ Γ (5, 0, 0, (fun u w' => u = some (.int v) ∧ w' = wM κ G T')) 7 (wM κ G T) 0 0 72 [some (.ref (G 0)), some (.int l1), some (.int l2), none, some (.int l4), some (.int l5), none] []) : ∀ (n : Nat) (T : MS) (l6 : Int32), m_fit_b136 N l1 l2 l4 k72 n T l6 = some (v, T') → J κ Γ (5, 0, 0, (fun u w' => u = some (.int v) ∧ w' = wM κ G T')) 7 (wM κ G T) 0 0 136 [some (.ref (G 0)), some (.int l1), some (.int l2), none, some (.int l4), none, some (.int l6)] [] := by
  intro n
  induction n with
  | zero => intro _ _ h; cases h
  | succ n ih =>
    intro T l6 h
    rw [m_fit_b136] at h
    refine j_iload C dX2_fit_136 rfl ?_
    refine j_aload_n C dX2_fit_138 rfl rfl ?_
    refine jm_geti hκ C 0 (by decide) rfl q1637 dX2_fit_139 ?_
    refine j_icmp_ge C dX2_fit_142 (tgt := 165) (by decide) (fun c => ?_) (fun c => ?_)
    · replace h := ip c h
      refine j_aload_n C dX2_fit_165 rfl rfl ?_
      refine j_aload_n C dX2_fit_166 rfl rfl ?_
      refine jm_geti hκ C 0 (by decide) rfl q1637 dX2_fit_167 ?_
      obtain ⟨v2, T3, e1, h⟩ := ob2 h
      refine jm_Vi hκ C (mt_m_nextOrder hκ N G e1) hG_m_nextOrder hy_m_nextOrder rfl rfl dX2_fit_170 (jfit.of (Nat.le_of_ble_eq_true rfl) (by decide) (Nat.zero_le _) (Nat.zero_le _) (Nat.le_of_ble_eq_true rfl)) rfl ?_
      refine j_istore C dX2_fit_173 (by decide) rfl ?_
      refine j_goto C dX2_fit_175 (tgt := 72) (by decide) ?_
      exact j_sub (hk72 _ _ _ h) ⟨rfl, ⟨rfl, ⟨rfl, ⟨rfl, ⟨rfl, trivial⟩⟩⟩⟩⟩
    replace h := im c h
    refine j_aload_n C dX2_fit_145 rfl rfl ?_
    refine jm_geta hκ C 53 (by decide) rfl q1690 dX2_fit_146 ?_
    refine j_iload C dX2_fit_149 rfl ?_
    refine j_aload_n C dX2_fit_151 rfl rfl ?_
    refine jm_geta hκ C 52 (by decide) rfl q1689 dX2_fit_152 ?_
    refine j_iload C dX2_fit_155 rfl ?_
    obtain ⟨b4, h⟩ := chk_some h
    refine jm_iald hκ C 52 rfl b4 dX2_fit_157 ?_
    obtain ⟨b6, h⟩ := chk_some h
    refine jm_iast hκ C 53 rfl b6 dX2_fit_158 ?_
    refine jm_nmT h (fun T5 h => ?_)
    refine j_iincN C h dX2_fit_159 rfl rfl (by decide) rfl (fun x7 h => ?_)
    refine j_goto C dX2_fit_162 (tgt := 136) (by decide) ?_
    exact j_sub (ih _ _ h) ⟨rfl, ⟨rfl, ⟨rfl, ⟨rfl, ⟨rfl, trivial⟩⟩⟩⟩⟩
def m_fit_b88 (N : Nat) (l1 : Int32) (l2 : Int32) (l4 : Int32) (k72 : MS → Int32 → Int32 → Option (Int32 × MS)) : Nat → MS → Int32 → Option (Int32 × MS)
  | 0, _, _ => none
  | n + 1, T, l6 =>
    (if (T.1 0) ≤ l6 then
    b2 (m_isPaper N T l1) fun v2 T3 =>
    (if (b2i v2) = 0 then
    b2 (m_nextOrder N T3 (T3.1 0)) fun v5 T6 =>
    k72 T6 l4 (b2i v5)
    else
    nm (l4 + 1) fun x7 =>
    (if l4 = 0 then
    m_fit_b136 N l1 l2 x7 k72 N T3 0
    else
    b2 (m_nextOrder N T3 (T3.1 0)) fun v9 T10 =>
    k72 T10 x7 (b2i v9)))
    else
    chk 9 l6 (
    chk 20 l6 (
    nm (sA T 45 l6.toNatClampNeg (T.2.1 52 l6.toNatClampNeg)) fun T12 =>
    nm (l6 + 1) fun x14 =>
    m_fit_b88 N l1 l2 l4 k72 n T12 x14)))
theorem wm_fit_b88 {κ : jK} (hκ : jStd κ) (N : Nat) {Γ : jG} (C : jC κ Γ cX2_fit 7 RX2 (some .int)) {G : Nat → Nat} (l1 : Int32) (l2 : Int32) (l4 : Int32) (k72 : MS → Int32 → Int32 → Option (Int32 × MS)) {v : Int32} {T' : MS} (hk72 : ∀ (T : MS) (l4 : Int32) (l5 : Int32), k72 T l4 l5 = some (v, T') → J κ Γ (5, 0, 0, (fun u w' => u = some (.int v) ∧ w' = wM κ G T')) 7 (wM κ G T) 0 0 72 [some (.ref (G 0)), some (.int l1), some (.int l2), none, some (.int l4), some (.int l5), none] []) : ∀ (n : Nat) (T : MS) (l6 : Int32), m_fit_b88 N l1 l2 l4 k72 n T l6 = some (v, T') → J κ Γ (5, 0, 0, (fun u w' => u = some (.int v) ∧ w' = wM κ G T')) 7 (wM κ G T) 0 0 88 [some (.ref (G 0)), some (.int l1), some (.int l2), none, some (.int l4), none, some (.int l6)] [] := by
  intro n
  induction n with
  | zero => intro _ _ h; cases h
  | succ n ih =>
    intro T l6 h
    rw [m_fit_b88] at h
    refine j_iload C dX2_fit_88 rfl ?_
    refine j_aload_n C dX2_fit_90 rfl rfl ?_
    refine jm_geti hκ C 0 (by decide) rfl q1637 dX2_fit_91 ?_
    refine j_icmp_ge C dX2_fit_94 (tgt := 117) (by decide) (fun c => ?_) (fun c => ?_)
    · replace h := ip c h
      refine j_aload_n C dX2_fit_117 rfl rfl ?_
      refine j_iload_n C dX2_fit_118 rfl rfl ?_
      obtain ⟨v2, T3, e1, h⟩ := ob2 h
      refine jm_Vi hκ C (mt_m_isPaper hκ N G e1) hG_m_isPaper hy_m_isPaper rfl rfl dX2_fit_119 (jfit.of (Nat.le_of_ble_eq_true rfl) (by decide) (Nat.zero_le _) (Nat.zero_le _) (Nat.le_of_ble_eq_true rfl)) rfl ?_
      refine j_if_eq C dX2_fit_122 (tgt := 165) (by decide) (fun c => ?_) (fun c => ?_)
      · replace h := ip c h
        refine j_aload_n C dX2_fit_165 rfl rfl ?_
        refine j_aload_n C dX2_fit_166 rfl rfl ?_
        refine jm_geti hκ C 0 (by decide) rfl q1637 dX2_fit_167 ?_
        obtain ⟨v5, T6, e4, h⟩ := ob2 h
        refine jm_Vi hκ C (mt_m_nextOrder hκ N G e4) hG_m_nextOrder hy_m_nextOrder rfl rfl dX2_fit_170 (jfit.of (Nat.le_of_ble_eq_true rfl) (by decide) (Nat.zero_le _) (Nat.zero_le _) (Nat.le_of_ble_eq_true rfl)) rfl ?_
        refine j_istore C dX2_fit_173 (by decide) rfl ?_
        refine j_goto C dX2_fit_175 (tgt := 72) (by decide) ?_
        exact j_sub (hk72 _ _ _ h) ⟨rfl, ⟨rfl, ⟨rfl, ⟨rfl, ⟨rfl, trivial⟩⟩⟩⟩⟩
      replace h := im c h
      refine j_iload C dX2_fit_125 rfl ?_
      refine j_iincN C h dX2_fit_127 rfl rfl (by decide) rfl (fun x7 h => ?_)
      refine j_if_ne C dX2_fit_130 (tgt := 165) (by decide) (fun c => ?_) (fun c => ?_)
      · replace h := im c h
        refine j_aload_n C dX2_fit_165 rfl rfl ?_
        refine j_aload_n C dX2_fit_166 rfl rfl ?_
        refine jm_geti hκ C 0 (by decide) rfl q1637 dX2_fit_167 ?_
        obtain ⟨v9, T10, e8, h⟩ := ob2 h
        refine jm_Vi hκ C (mt_m_nextOrder hκ N G e8) hG_m_nextOrder hy_m_nextOrder rfl rfl dX2_fit_170 (jfit.of (Nat.le_of_ble_eq_true rfl) (by decide) (Nat.zero_le _) (Nat.zero_le _) (Nat.le_of_ble_eq_true rfl)) rfl ?_
        refine j_istore C dX2_fit_173 (by decide) rfl ?_
        refine j_goto C dX2_fit_175 (tgt := 72) (by decide) ?_
        exact j_sub (hk72 _ _ _ h) ⟨rfl, ⟨rfl, ⟨rfl, ⟨rfl, ⟨rfl, trivial⟩⟩⟩⟩⟩
      replace h := ip c h
      refine j_iconst C (v := 0) dX2_fit_133 rfl ?_
      refine j_istore C dX2_fit_134 (by decide) rfl ?_
      exact j_sub (wm_fit_b136 hκ N C _ _ _ _ hk72 N _ _ h) ⟨rfl, ⟨rfl, ⟨rfl, ⟨rfl, ⟨rfl, trivial⟩⟩⟩⟩⟩
    replace h := im c h
    refine j_aload_n C dX2_fit_97 rfl rfl ?_
    refine jm_geta hκ C 45 (by decide) rfl q1682 dX2_fit_98 ?_
    refine j_iload C dX2_fit_101 rfl ?_
    refine j_aload_n C dX2_fit_103 rfl rfl ?_
    refine jm_geta hκ C 52 (by decide) rfl q1689 dX2_fit_104 ?_
    refine j_iload C dX2_fit_107 rfl ?_
    obtain ⟨b11, h⟩ := chk_some h
    refine jm_iald hκ C 52 rfl b11 dX2_fit_109 ?_
    obtain ⟨b13, h⟩ := chk_some h
    refine jm_iast hκ C 45 rfl b13 dX2_fit_110 ?_
    refine jm_nmT h (fun T12 h => ?_)
    refine j_iincN C h dX2_fit_111 rfl rfl (by decide) rfl (fun x14 h => ?_)
    refine j_goto C dX2_fit_114 (tgt := 88) (by decide) ?_
    exact j_sub (ih _ _ h) ⟨rfl, ⟨rfl, ⟨rfl, ⟨rfl, ⟨rfl, trivial⟩⟩⟩⟩⟩
def m_fit_b72 (N : Nat) (l1 : Int32) (l2 : Int32) : Nat → MS → Int32 → Int32 → Option (Int32 × MS)
  | 0, _, _, _ => none
  | n + 1, T, l4, l5 =>
    (if l5 = 0 then
    (if l2 = (-1) then
    some (l4, T)
    else
    (if l4 ≤ 0 then
    some ((-2), T)
    else
    (if (T.1 0) ≤ l2 then
    some ((-2), T)
    else
    chk 9 l2 (
    some (T.2.1 53 l2.toNatClampNeg, T)))))
    else
    nm (sI T 44 (T.1 0)) fun T2 =>
    m_fit_b88 N l1 l2 l4 (fun t y4 y5 => m_fit_b72 N l1 l2 n t y4 y5) N T2 0)
theorem wm_fit_b72 {κ : jK} (hκ : jStd κ) (N : Nat) {Γ : jG} (C : jC κ Γ cX2_fit 7 RX2 (some .int)) {G : Nat → Nat} (l1 : Int32) (l2 : Int32) {v : Int32} {T' : MS} : ∀ (n : Nat) (T : MS) (l4 : Int32) (l5 : Int32), m_fit_b72 N l1 l2 n T l4 l5 = some (v, T') → J κ Γ (5, 0, 0, (fun u w' => u = some (.int v) ∧ w' = wM κ G T')) 7 (wM κ G T) 0 0 72 [some (.ref (G 0)), some (.int l1), some (.int l2), none, some (.int l4), some (.int l5), none] [] := by
  intro n
  induction n with
  | zero => intro _ _ _ h; cases h
  | succ n ih =>
    intro T l4 l5 h
    rw [m_fit_b72] at h
    refine j_iload C dX2_fit_72 rfl ?_
    refine j_if_eq C dX2_fit_74 (tgt := 178) (by decide) (fun c => ?_) (fun c => ?_)
    · replace h := ip c h
      refine j_iload_n C dX2_fit_178 rfl rfl ?_
      refine j_iconst C (v := (-1)) dX2_fit_179 rfl ?_
      refine j_icmp_ne C dX2_fit_180 (tgt := 188) (by decide) (fun c => ?_) (fun c => ?_)
      · replace h := im c h
        refine j_iload C dX2_fit_188 rfl ?_
        refine j_if_le C dX2_fit_190 (tgt := 210) (by decide) (fun c => ?_) (fun c => ?_)
        · replace h := ip c h
          refine j_bipush C (v := (-2)) dX2_fit_210 rfl ?_
          obtain ⟨rfl, rfl⟩ := sp2 h
          exact j_iret C dX2_fit_212 (Nat.zero_le _) (Nat.zero_le _) ⟨rfl, rfl⟩
        replace h := im c h
        refine j_iload_n C dX2_fit_193 rfl rfl ?_
        refine j_aload_n C dX2_fit_194 rfl rfl ?_
        refine jm_geti hκ C 0 (by decide) rfl q1637 dX2_fit_195 ?_
        refine j_icmp_ge C dX2_fit_198 (tgt := 210) (by decide) (fun c => ?_) (fun c => ?_)
        · replace h := ip c h
          refine j_bipush C (v := (-2)) dX2_fit_210 rfl ?_
          obtain ⟨rfl, rfl⟩ := sp2 h
          exact j_iret C dX2_fit_212 (Nat.zero_le _) (Nat.zero_le _) ⟨rfl, rfl⟩
        replace h := im c h
        refine j_aload_n C dX2_fit_201 rfl rfl ?_
        refine jm_geta hκ C 53 (by decide) rfl q1690 dX2_fit_202 ?_
        refine j_iload_n C dX2_fit_205 rfl rfl ?_
        obtain ⟨b1, h⟩ := chk_some h
        refine jm_iald hκ C 53 rfl b1 dX2_fit_206 ?_
        refine j_goto C dX2_fit_207 (tgt := 212) (by decide) ?_
        obtain ⟨rfl, rfl⟩ := sp2 h
        exact j_iret C dX2_fit_212 (Nat.zero_le _) (Nat.zero_le _) ⟨rfl, rfl⟩
      replace h := ip c h
      refine j_iload C dX2_fit_183 rfl ?_
      refine j_goto C dX2_fit_185 (tgt := 212) (by decide) ?_
      obtain ⟨rfl, rfl⟩ := sp2 h
      exact j_iret C dX2_fit_212 (Nat.zero_le _) (Nat.zero_le _) ⟨rfl, rfl⟩
    replace h := im c h
    refine j_aload_n C dX2_fit_77 rfl rfl ?_
    refine j_aload_n C dX2_fit_78 rfl rfl ?_
    refine jm_geti hκ C 0 (by decide) rfl q1637 dX2_fit_79 ?_
    refine jm_puti hκ C 44 (by decide) rfl rfl rfl q1681 dX2_fit_82 ?_
    refine jm_nmT h (fun T2 h => ?_)
    refine j_iconst C (v := 0) dX2_fit_85 rfl ?_
    refine j_istore C dX2_fit_86 (by decide) rfl ?_
    exact j_sub (wm_fit_b88 hκ N C _ _ _ _ (fun _ _ _ h => ih _ _ _ h) N _ _ h) ⟨rfl, ⟨rfl, ⟨rfl, ⟨rfl, ⟨rfl, trivial⟩⟩⟩⟩⟩
def m_fit_b42 (N : Nat) (l1 : Int32) (l2 : Int32) : Nat → MS → Int32 → Option (Int32 × MS)
  | 0, _, _ => none
  | n + 1, T, l4 =>
    (if (T.1 0) ≤ l4 then
    m_fit_b72 N l1 l2 N T 0 1
    else
    chk 9 l4 (
    nm (sA T 52 l4.toNatClampNeg l4) fun T1 =>
    nm (l4 + 1) fun x3 =>
    m_fit_b42 N l1 l2 n T1 x3))
theorem wm_fit_b42 {κ : jK} (hκ : jStd κ) (N : Nat) {Γ : jG} (C : jC κ Γ cX2_fit 7 RX2 (some .int)) {G : Nat → Nat} (l1 : Int32) (l2 : Int32) {v : Int32} {T' : MS} : ∀ (n : Nat) (T : MS) (l4 : Int32), m_fit_b42 N l1 l2 n T l4 = some (v, T') → J κ Γ (5, 0, 0, (fun u w' => u = some (.int v) ∧ w' = wM κ G T')) 7 (wM κ G T) 0 0 42 [some (.ref (G 0)), some (.int l1), some (.int l2), none, some (.int l4), none, none] [] := by
  intro n
  induction n with
  | zero => intro _ _ h; cases h
  | succ n ih =>
    intro T l4 h
    rw [m_fit_b42] at h
    refine j_iload C dX2_fit_42 rfl ?_
    refine j_aload_n C dX2_fit_44 rfl rfl ?_
    refine jm_geti hκ C 0 (by decide) rfl q1637 dX2_fit_45 ?_
    refine j_icmp_ge C dX2_fit_48 (tgt := 66) (by decide) (fun c => ?_) (fun c => ?_)
    · replace h := ip c h
      refine j_iconst C (v := 0) dX2_fit_66 rfl ?_
      refine j_istore C dX2_fit_67 (by decide) rfl ?_
      refine j_iconst C (v := 1) dX2_fit_69 rfl ?_
      refine j_istore C dX2_fit_70 (by decide) rfl ?_
      exact j_sub (wm_fit_b72 hκ N C _ _ N _ _ _ h) ⟨rfl, ⟨rfl, ⟨rfl, ⟨rfl, ⟨rfl, trivial⟩⟩⟩⟩⟩
    replace h := im c h
    refine j_aload_n C dX2_fit_51 rfl rfl ?_
    refine jm_geta hκ C 52 (by decide) rfl q1689 dX2_fit_52 ?_
    refine j_iload C dX2_fit_55 rfl ?_
    refine j_iload C dX2_fit_57 rfl ?_
    obtain ⟨b2, h⟩ := chk_some h
    refine jm_iast hκ C 52 rfl b2 dX2_fit_59 ?_
    refine jm_nmT h (fun T1 h => ?_)
    refine j_iincN C h dX2_fit_60 rfl rfl (by decide) rfl (fun x3 h => ?_)
    refine j_goto C dX2_fit_63 (tgt := 42) (by decide) ?_
    exact j_sub (ih _ _ h) ⟨rfl, ⟨rfl, ⟨rfl, ⟨rfl, trivial⟩⟩⟩⟩
def m_fit (N : Nat) (T : MS) (p1 : Int32) (p2 : Int32) : Option (Int32 × MS) :=
  (m_isShelf p1).bind fun v2 =>
  (if (b2i v2) = 0 then
  some ((-1), T)
  else
  (if (-1) ≤ p2 then
  (m_noRow T p1 1).bind fun v4 =>
  (if 0 ≤ v4 then
  (if (T.1 0) ≤ 6 then
  m_fit_b42 N p1 p2 N T 0
  else
  some ((-5), T))
  else
  some (v4, T))
  else
  some ((-1), T)))
theorem mt_m_fit {κ : jK} (hκ : jStd κ) (N : Nat) (G : Nat → Nat) {T : MS} {p1 : Int32} {p2 : Int32} {v : Int32} {T' : MS} (h : m_fit N T p1 p2 = some (v, T')) : jM κ yX2_fit (ws_ yX2_fit cX2_fit 7 (some .int)) 5 0 0 [.ref (G 0), .int p1, .int p2] (wM κ G T) (fun u w' => u = some (.int v) ∧ w' = wM κ G T') := by
  rw [m_fit] at h
  refine jM.of (by decide) rfl (Nat.le_of_ble_eq_true rfl) fun Γ C _ => ?_
  show J κ Γ (5, 0, 0, (fun u w' => u = some (.int v) ∧ w' = wM κ G T')) 7 (wM κ G T) 0 0 0 [some (.ref (G 0)), some (.int p1), some (.int p2), none, none, none, none] []
  refine j_iload_n C dX2_fit_0 rfl rfl ?_
  obtain ⟨v2, e1, h⟩ := ob h
  refine j_Si hκ.1 C (mt_m_isShelf hκ e1) hG_m_isShelf hy_m_isShelf rfl dX2_fit_1 (jfit.of (Nat.le_of_ble_eq_true rfl) (by decide) (Nat.zero_le _) (Nat.zero_le _) (Nat.le_of_ble_eq_true rfl)) rfl ?_
  refine j_if_eq C dX2_fit_4 (tgt := 12) (by decide) (fun c => ?_) (fun c => ?_)
  · replace h := ip c h
    refine j_iconst C (v := (-1)) dX2_fit_12 rfl ?_
    obtain ⟨rfl, rfl⟩ := sp2 h
    exact j_iret C dX2_fit_13 (Nat.zero_le _) (Nat.zero_le _) ⟨rfl, rfl⟩
  replace h := im c h
  refine j_iload_n C dX2_fit_7 rfl rfl ?_
  refine j_iconst C (v := (-1)) dX2_fit_8 rfl ?_
  refine j_icmp_ge C dX2_fit_9 (tgt := 14) (by decide) (fun c => ?_) (fun c => ?_)
  · replace h := ip c h
    refine j_aload_n C dX2_fit_14 rfl rfl ?_
    refine j_iload_n C dX2_fit_15 rfl rfl ?_
    refine j_iconst C (v := 1) dX2_fit_16 rfl ?_
    obtain ⟨v4, e3, h⟩ := ob h
    refine jm_Vi hκ C (mt_m_noRow hκ G e3) hG_m_noRow hy_m_noRow rfl rfl dX2_fit_17 (jfit.of (Nat.le_of_ble_eq_true rfl) (by decide) (Nat.zero_le _) (Nat.zero_le _) (Nat.le_of_ble_eq_true rfl)) rfl ?_
    refine j_istore_n C dX2_fit_20 rfl (by decide) rfl ?_
    refine j_iload_n C dX2_fit_21 rfl rfl ?_
    refine j_if_ge C dX2_fit_22 (tgt := 27) (by decide) (fun c => ?_) (fun c => ?_)
    · replace h := ip c h
      refine j_aload_n C dX2_fit_27 rfl rfl ?_
      refine jm_geti hκ C 0 (by decide) rfl q1637 dX2_fit_28 ?_
      refine j_bipush C (v := 6) dX2_fit_31 rfl ?_
      refine j_icmp_le C dX2_fit_33 (tgt := 39) (by decide) (fun c => ?_) (fun c => ?_)
      · replace h := ip c h
        refine j_iconst C (v := 0) dX2_fit_39 rfl ?_
        refine j_istore C dX2_fit_40 (by decide) rfl ?_
        exact j_sub (wm_fit_b42 hκ N C _ _ N _ _ h) ⟨rfl, ⟨rfl, ⟨rfl, ⟨rfl, trivial⟩⟩⟩⟩
      replace h := im c h
      refine j_bipush C (v := (-5)) dX2_fit_36 rfl ?_
      obtain ⟨rfl, rfl⟩ := sp2 h
      exact j_iret C dX2_fit_38 (Nat.zero_le _) (Nat.zero_le _) ⟨rfl, rfl⟩
    replace h := im c h
    refine j_iload_n C dX2_fit_25 rfl rfl ?_
    obtain ⟨rfl, rfl⟩ := sp2 h
    exact j_iret C dX2_fit_26 (Nat.zero_le _) (Nat.zero_le _) ⟨rfl, rfl⟩
  replace h := im c h
  refine j_iconst C (v := (-1)) dX2_fit_12 rfl ?_
  obtain ⟨rfl, rfl⟩ := sp2 h
  exact j_iret C dX2_fit_13 (Nat.zero_le _) (Nat.zero_le _) ⟨rfl, rfl⟩
/-! apartFrom -/
def m_apartFrom (T : MS) (p1 : Int32) (p2 : Int32) : Option Int32 :=
  (m_xOf T p1).bind fun v2 =>
  (m_yOf T p1).bind fun v4 =>
  some ((jabs (v2 - (jrem p2 16))) + (jabs (v4 - (p2 / 16))))
theorem mt_m_apartFrom {κ : jK} (hκ : jStd κ) (G : Nat → Nat) {T : MS} {p1 : Int32} {p2 : Int32} {v : Int32} (h : m_apartFrom T p1 p2 = some v) : jM κ yX2_apartFrom (ws_ yX2_apartFrom cX2_apartFrom 3 (some .int)) 1 0 0 [.ref (G 0), .int p1, .int p2] (wM κ G T) (fun u w' => u = some (.int v) ∧ w' = wM κ G T) := by
  rw [m_apartFrom] at h
  refine jM.of (by decide) rfl (Nat.le_of_ble_eq_true rfl) fun Γ C _ => ?_
  show J κ Γ (1, 0, 0, (fun u w' => u = some (.int v) ∧ w' = wM κ G T)) 3 (wM κ G T) 0 0 0 [some (.ref (G 0)), some (.int p1), some (.int p2)] []
  refine j_aload_n C dX2_apartFrom_0 rfl rfl ?_
  refine j_iload_n C dX2_apartFrom_1 rfl rfl ?_
  obtain ⟨v2, e1, h⟩ := ob h
  refine jm_Vi hκ C (mt_m_xOf hκ G e1) hG_m_xOf hy_m_xOf rfl rfl dX2_apartFrom_2 (jfit.of (Nat.le_of_ble_eq_true rfl) (by decide) (Nat.zero_le _) (Nat.zero_le _) (Nat.le_of_ble_eq_true rfl)) rfl ?_
  refine j_iload_n C dX2_apartFrom_5 rfl rfl ?_
  refine j_bipush C (v := 16) dX2_apartFrom_6 rfl ?_
  refine j_irem C dX2_apartFrom_8 (by decide) ?_
  refine j_isub C dX2_apartFrom_9 ?_
  refine j_mabs C dX2_apartFrom_10 q1941 q860 q129 q861 (Nat.le_of_ble_eq_true rfl) (Nat.le_of_ble_eq_true rfl) (Nat.zero_le _) (Nat.zero_le _) ?_
  refine j_aload_n C dX2_apartFrom_13 rfl rfl ?_
  refine j_iload_n C dX2_apartFrom_14 rfl rfl ?_
  obtain ⟨v4, e3, h⟩ := ob h
  refine jm_Vi hκ C (mt_m_yOf hκ G e3) hG_m_yOf hy_m_yOf rfl rfl dX2_apartFrom_15 (jfit.of (Nat.le_of_ble_eq_true rfl) (by decide) (Nat.zero_le _) (Nat.zero_le _) (Nat.le_of_ble_eq_true rfl)) rfl ?_
  refine j_iload_n C dX2_apartFrom_18 rfl rfl ?_
  refine j_bipush C (v := 16) dX2_apartFrom_19 rfl ?_
  refine j_idiv C dX2_apartFrom_21 (by decide) ?_
  refine j_isub C dX2_apartFrom_22 ?_
  refine j_mabs C dX2_apartFrom_23 q1941 q860 q129 q861 (Nat.le_of_ble_eq_true rfl) (Nat.le_of_ble_eq_true rfl) (Nat.zero_le _) (Nat.zero_le _) ?_
  refine j_iadd C dX2_apartFrom_26 ?_
  obtain rfl := sp1 h
  exact j_iret C dX2_apartFrom_27 (Nat.zero_le _) (Nat.zero_le _) ⟨rfl, rfl⟩
/-! nearest -/
def m_nearest_b4 (N : Nat) (T : MS) (l1 : Int32) : Nat → Int32 → Int32 → Option Int32
  | 0, _, _ => none
  | n + 1, l2, l3 =>
    (if (T.1 0) ≤ l3 then
    some l2
    else
    (if l3 = 0 then
    (m_apartFrom T l3 l1).bind fun v6 =>
    nm (l3 + 1) fun x7 =>
    m_nearest_b4 N T l1 n v6 x7
    else
    (m_apartFrom T l3 l1).bind fun v2 =>
    nm (jmin l2 v2) fun x3 =>
    nm (l3 + 1) fun x4 =>
    m_nearest_b4 N T l1 n x3 x4))
theorem wm_nearest_b4 {κ : jK} (hκ : jStd κ) (N : Nat) {Γ : jG} (C : jC κ Γ cX2_nearest 4 RX2 (some .int)) {G : Nat → Nat} {T : MS} (l1 : Int32) {v : Int32} : ∀ (n : Nat) (l2 : Int32) (l3 : Int32), m_nearest_b4 N T l1 n l2 l3 = some v → J κ Γ (2, 0, 0, (fun u w' => u = some (.int v) ∧ w' = wM κ G T)) 4 (wM κ G T) 0 0 4 [some (.ref (G 0)), some (.int l1), some (.int l2), some (.int l3)] [] := by
  intro n
  induction n with
  | zero => intro _ _ h; cases h
  | succ n ih =>
    intro l2 l3 h
    rw [m_nearest_b4] at h
    refine j_iload_n C dX2_nearest_4 rfl rfl ?_
    refine j_aload_n C dX2_nearest_5 rfl rfl ?_
    refine jm_geti hκ C 0 (by decide) rfl q1637 dX2_nearest_6 ?_
    refine j_icmp_ge C dX2_nearest_9 (tgt := 42) (by decide) (fun c => ?_) (fun c => ?_)
    · replace h := ip c h
      refine j_iload_n C dX2_nearest_42 rfl rfl ?_
      obtain rfl := sp1 h
      exact j_iret C dX2_nearest_43 (Nat.zero_le _) (Nat.zero_le _) ⟨rfl, rfl⟩
    replace h := im c h
    refine j_iload_n C dX2_nearest_12 rfl rfl ?_
    refine j_if_ne C dX2_nearest_13 (tgt := 25) (by decide) (fun c => ?_) (fun c => ?_)
    · replace h := im c h
      refine j_iload_n C dX2_nearest_25 rfl rfl ?_
      refine j_aload_n C dX2_nearest_26 rfl rfl ?_
      refine j_iload_n C dX2_nearest_27 rfl rfl ?_
      refine j_iload_n C dX2_nearest_28 rfl rfl ?_
      obtain ⟨v2, e1, h⟩ := ob h
      refine jm_Vi hκ C (mt_m_apartFrom hκ G e1) hG_m_apartFrom hy_m_apartFrom rfl rfl dX2_nearest_29 (jfit.of (Nat.le_of_ble_eq_true rfl) (by decide) (Nat.zero_le _) (Nat.zero_le _) (Nat.le_of_ble_eq_true rfl)) rfl ?_
      refine j_mmin C dX2_nearest_32 q1986 q698 q129 q699 (Nat.le_of_ble_eq_true rfl) (Nat.le_of_ble_eq_true rfl) (Nat.zero_le _) (Nat.zero_le _) ?_
      refine j_nmI h (fun x3 h => ?_)
      refine j_istore_n C dX2_nearest_35 rfl (by decide) rfl ?_
      refine j_iincN C h dX2_nearest_36 rfl rfl (by decide) rfl (fun x4 h => ?_)
      refine j_goto C dX2_nearest_39 (tgt := 4) (by decide) ?_
      exact j_sub (ih _ _ h) ⟨rfl, ⟨rfl, ⟨rfl, ⟨rfl, trivial⟩⟩⟩⟩
    replace h := ip c h
    refine j_aload_n C dX2_nearest_16 rfl rfl ?_
    refine j_iload_n C dX2_nearest_17 rfl rfl ?_
    refine j_iload_n C dX2_nearest_18 rfl rfl ?_
    obtain ⟨v6, e5, h⟩ := ob h
    refine jm_Vi hκ C (mt_m_apartFrom hκ G e5) hG_m_apartFrom hy_m_apartFrom rfl rfl dX2_nearest_19 (jfit.of (Nat.le_of_ble_eq_true rfl) (by decide) (Nat.zero_le _) (Nat.zero_le _) (Nat.le_of_ble_eq_true rfl)) rfl ?_
    refine j_goto C dX2_nearest_22 (tgt := 35) (by decide) ?_
    refine j_istore_n C dX2_nearest_35 rfl (by decide) rfl ?_
    refine j_iincN C h dX2_nearest_36 rfl rfl (by decide) rfl (fun x7 h => ?_)
    refine j_goto C dX2_nearest_39 (tgt := 4) (by decide) ?_
    exact j_sub (ih _ _ h) ⟨rfl, ⟨rfl, ⟨rfl, ⟨rfl, trivial⟩⟩⟩⟩
def m_nearest (N : Nat) (T : MS) (p1 : Int32) : Option Int32 :=
  m_nearest_b4 N T p1 N 0 0
theorem mt_m_nearest {κ : jK} (hκ : jStd κ) (N : Nat) (G : Nat → Nat) {T : MS} {p1 : Int32} {v : Int32} (h : m_nearest N T p1 = some v) : jM κ yX2_nearest (ws_ yX2_nearest cX2_nearest 4 (some .int)) 2 0 0 [.ref (G 0), .int p1] (wM κ G T) (fun u w' => u = some (.int v) ∧ w' = wM κ G T) := by
  rw [m_nearest] at h
  refine jM.of (by decide) rfl (Nat.le_of_ble_eq_true rfl) fun Γ C _ => ?_
  show J κ Γ (2, 0, 0, (fun u w' => u = some (.int v) ∧ w' = wM κ G T)) 4 (wM κ G T) 0 0 0 [some (.ref (G 0)), some (.int p1), none, none] []
  refine j_iconst C (v := 0) dX2_nearest_0 rfl ?_
  refine j_istore_n C dX2_nearest_1 rfl (by decide) rfl ?_
  refine j_iconst C (v := 0) dX2_nearest_2 rfl ?_
  refine j_istore_n C dX2_nearest_3 rfl (by decide) rfl ?_
  exact j_sub (wm_nearest_b4 hκ N C _ N _ _ h) ⟨rfl, ⟨rfl, ⟨rfl, ⟨rfl, trivial⟩⟩⟩⟩
/-! hang -/
def m_hang_b29 (N : Nat) (T : MS) (l1 : Int32) (l2 : Int32) : Nat → Int32 → Int32 → Int32 → Option Int32
  | 0, _, _, _ => none
  | n + 1, l3, l4, l5 =>
    (if 256 ≤ l5 then
    (if l2 = 0 then
    some l3
    else
    some l4)
    else
    (m_apartFrom T (-1) l5).bind fun v2 =>
    (if l1 < v2 then
    nm (l5 + 1) fun x3 =>
    m_hang_b29 N T l1 l2 n l3 l4 x3
    else
    (m_nearest N T l5).bind fun v5 =>
    (if l4 < v5 then
    (m_nearest N T l5).bind fun v7 =>
    nm (l5 + 1) fun x8 =>
    m_hang_b29 N T l1 l2 n l5 v7 x8
    else
    nm (l5 + 1) fun x9 =>
    m_hang_b29 N T l1 l2 n l3 l4 x9)))
theorem wm_hang_b29 {κ : jK} (hκ : jStd κ) (N : Nat) {Γ : jG} (C : jC κ Γ cX2_hang 6 RX2 (some .int)) {G : Nat → Nat} {T : MS} (l1 : Int32) (l2 : Int32) {v : Int32} : ∀ (n : Nat) (l3 : Int32) (l4 : Int32) (l5 : Int32), m_hang_b29 N T l1 l2 n l3 l4 l5 = some v → J κ Γ (3, 0, 0, (fun u w' => u = some (.int v) ∧ w' = wM κ G T)) 6 (wM κ G T) 0 0 29 [some (.ref (G 0)), some (.int l1), some (.int l2), some (.int l3), some (.int l4), some (.int l5)] [] := by
  intro n
  induction n with
  | zero => intro _ _ _ h; cases h
  | succ n ih =>
    intro l3 l4 l5 h
    rw [m_hang_b29] at h
    refine j_iload C dX2_hang_29 rfl ?_
    refine j_sipush C (v := 256) dX2_hang_31 rfl ?_
    refine j_icmp_ge C dX2_hang_34 (tgt := 79) (by decide) (fun c => ?_) (fun c => ?_)
    · replace h := ip c h
      refine j_iload_n C dX2_hang_79 rfl rfl ?_
      refine j_if_ne C dX2_hang_80 (tgt := 87) (by decide) (fun c => ?_) (fun c => ?_)
      · replace h := im c h
        refine j_iload C dX2_hang_87 rfl ?_
        obtain rfl := sp1 h
        exact j_iret C dX2_hang_89 (Nat.zero_le _) (Nat.zero_le _) ⟨rfl, rfl⟩
      replace h := ip c h
      refine j_iload_n C dX2_hang_83 rfl rfl ?_
      refine j_goto C dX2_hang_84 (tgt := 89) (by decide) ?_
      obtain rfl := sp1 h
      exact j_iret C dX2_hang_89 (Nat.zero_le _) (Nat.zero_le _) ⟨rfl, rfl⟩
    replace h := im c h
    refine j_aload_n C dX2_hang_37 rfl rfl ?_
    refine j_iconst C (v := (-1)) dX2_hang_38 rfl ?_
    refine j_iload C dX2_hang_39 rfl ?_
    obtain ⟨v2, e1, h⟩ := ob h
    refine jm_Vi hκ C (mt_m_apartFrom hκ G e1) hG_m_apartFrom hy_m_apartFrom rfl rfl dX2_hang_41 (jfit.of (Nat.le_of_ble_eq_true rfl) (by decide) (Nat.zero_le _) (Nat.zero_le _) (Nat.le_of_ble_eq_true rfl)) rfl ?_
    refine j_iload_n C dX2_hang_44 rfl rfl ?_
    refine j_icmp_gt C dX2_hang_45 (tgt := 73) (by decide) (fun c => ?_) (fun c => ?_)
    · replace h := ip c h
      refine j_iincN C h dX2_hang_73 rfl rfl (by decide) rfl (fun x3 h => ?_)
      refine j_goto C dX2_hang_76 (tgt := 29) (by decide) ?_
      exact j_sub (ih _ _ _ h) ⟨rfl, ⟨rfl, ⟨rfl, ⟨rfl, ⟨rfl, ⟨rfl, trivial⟩⟩⟩⟩⟩⟩
    replace h := im c h
    refine j_aload_n C dX2_hang_48 rfl rfl ?_
    refine j_iload C dX2_hang_49 rfl ?_
    obtain ⟨v5, e4, h⟩ := ob h
    refine jm_Vi hκ C (mt_m_nearest hκ N G e4) hG_m_nearest hy_m_nearest rfl rfl dX2_hang_51 (jfit.of (Nat.le_of_ble_eq_true rfl) (by decide) (Nat.zero_le _) (Nat.zero_le _) (Nat.le_of_ble_eq_true rfl)) rfl ?_
    refine j_iload C dX2_hang_54 rfl ?_
    refine j_icmp_gt C dX2_hang_56 (tgt := 62) (by decide) (fun c => ?_) (fun c => ?_)
    · replace h := ip c h
      refine j_aload_n C dX2_hang_62 rfl rfl ?_
      refine j_iload C dX2_hang_63 rfl ?_
      obtain ⟨v7, e6, h⟩ := ob h
      refine jm_Vi hκ C (mt_m_nearest hκ N G e6) hG_m_nearest hy_m_nearest rfl rfl dX2_hang_65 (jfit.of (Nat.le_of_ble_eq_true rfl) (by decide) (Nat.zero_le _) (Nat.zero_le _) (Nat.le_of_ble_eq_true rfl)) rfl ?_
      refine j_istore C dX2_hang_68 (by decide) rfl ?_
      refine j_iload C dX2_hang_70 rfl ?_
      refine j_istore_n C dX2_hang_72 rfl (by decide) rfl ?_
      refine j_iincN C h dX2_hang_73 rfl rfl (by decide) rfl (fun x8 h => ?_)
      refine j_goto C dX2_hang_76 (tgt := 29) (by decide) ?_
      exact j_sub (ih _ _ _ h) ⟨rfl, ⟨rfl, ⟨rfl, ⟨rfl, ⟨rfl, ⟨rfl, trivial⟩⟩⟩⟩⟩⟩
    replace h := im c h
    refine j_goto C dX2_hang_59 (tgt := 73) (by decide) ?_
    refine j_iincN C h dX2_hang_73 rfl rfl (by decide) rfl (fun x9 h => ?_)
    refine j_goto C dX2_hang_76 (tgt := 29) (by decide) ?_
    exact j_sub (ih _ _ _ h) ⟨rfl, ⟨rfl, ⟨rfl, ⟨rfl, ⟨rfl, ⟨rfl, trivial⟩⟩⟩⟩⟩⟩
def m_hang (N : Nat) (T : MS) (p1 : Int32) (p2 : Int32) : Option Int32 :=
  (m_within p1 0 30).bind fun v2 =>
  (if (b2i v2) = 0 then
  some (-1)
  else
  (m_within p2 0 1).bind fun v4 =>
  (if (b2i v4) = 0 then
  some (-1)
  else
  m_hang_b29 N T p1 p2 N 0 (-1) 0))
theorem mt_m_hang {κ : jK} (hκ : jStd κ) (N : Nat) (G : Nat → Nat) {T : MS} {p1 : Int32} {p2 : Int32} {v : Int32} (h : m_hang N T p1 p2 = some v) : jM κ yX2_hang (ws_ yX2_hang cX2_hang 6 (some .int)) 3 0 0 [.ref (G 0), .int p1, .int p2] (wM κ G T) (fun u w' => u = some (.int v) ∧ w' = wM κ G T) := by
  rw [m_hang] at h
  refine jM.of (by decide) rfl (Nat.le_of_ble_eq_true rfl) fun Γ C _ => ?_
  show J κ Γ (3, 0, 0, (fun u w' => u = some (.int v) ∧ w' = wM κ G T)) 6 (wM κ G T) 0 0 0 [some (.ref (G 0)), some (.int p1), some (.int p2), none, none, none] []
  refine j_iload_n C dX2_hang_0 rfl rfl ?_
  refine j_iconst C (v := 0) dX2_hang_1 rfl ?_
  refine j_bipush C (v := 30) dX2_hang_2 rfl ?_
  obtain ⟨v2, e1, h⟩ := ob h
  refine j_Si hκ.1 C (mt_m_within hκ e1) hG_m_within hy_m_within rfl dX2_hang_4 (jfit.of (Nat.le_of_ble_eq_true rfl) (by decide) (Nat.zero_le _) (Nat.zero_le _) (Nat.le_of_ble_eq_true rfl)) rfl ?_
  refine j_if_eq C dX2_hang_7 (tgt := 19) (by decide) (fun c => ?_) (fun c => ?_)
  · replace h := ip c h
    refine j_iconst C (v := (-1)) dX2_hang_19 rfl ?_
    obtain rfl := sp1 h
    exact j_iret C dX2_hang_20 (Nat.zero_le _) (Nat.zero_le _) ⟨rfl, rfl⟩
  replace h := im c h
  refine j_iload_n C dX2_hang_10 rfl rfl ?_
  refine j_iconst C (v := 0) dX2_hang_11 rfl ?_
  refine j_iconst C (v := 1) dX2_hang_12 rfl ?_
  obtain ⟨v4, e3, h⟩ := ob h
  refine j_Si hκ.1 C (mt_m_within hκ e3) hG_m_within hy_m_within rfl dX2_hang_13 (jfit.of (Nat.le_of_ble_eq_true rfl) (by decide) (Nat.zero_le _) (Nat.zero_le _) (Nat.le_of_ble_eq_true rfl)) rfl ?_
  refine j_if_ne C dX2_hang_16 (tgt := 21) (by decide) (fun c => ?_) (fun c => ?_)
  · replace h := im c h
    refine j_iconst C (v := 0) dX2_hang_21 rfl ?_
    refine j_istore_n C dX2_hang_22 rfl (by decide) rfl ?_
    refine j_iconst C (v := (-1)) dX2_hang_23 rfl ?_
    refine j_istore C dX2_hang_24 (by decide) rfl ?_
    refine j_iconst C (v := 0) dX2_hang_26 rfl ?_
    refine j_istore C dX2_hang_27 (by decide) rfl ?_
    exact j_sub (wm_hang_b29 hκ N C _ _ N _ _ _ h) ⟨rfl, ⟨rfl, ⟨rfl, ⟨rfl, ⟨rfl, ⟨rfl, trivial⟩⟩⟩⟩⟩⟩
  replace h := ip c h
  refine j_iconst C (v := (-1)) dX2_hang_19 rfl ?_
  obtain rfl := sp1 h
  exact j_iret C dX2_hang_20 (Nat.zero_le _) (Nat.zero_le _) ⟨rfl, rfl⟩
/-! drawn -/
def m_drawn_b131 (N : Nat) (T : MS) (l2 : Int32) (l3 : Int32) (l4 : Int32) (l5 : Int32) (l6 : Int32) (l7 : Int32) (l10 : Int32) (l12 : Int32) (k72 : Int32 → Int32 → Int32 → Int32 → Option Int32) (k47 : Int32 → Int32 → Int32 → Int32 → Option Int32) : Nat → Int32 → Int32 → Int32 → Int32 → Option Int32
  | 0, _, _, _, _ => none
  | n + 1, l8, l9, l11, l13 =>
    (if (T.1 0) ≤ l13 then
    nm (l10 + 1) fun x1 =>
    k72 l4 l8 l9 x1
    else
    (m_minutes T l9 l11).bind fun v3 =>
    nm (l8 + (v3 + (T.2.1 5 3))) fun x4 =>
    nz (T.1 0) (
    nm (jrem (l11 + l12) (T.1 0)) fun x6 =>
    nm (l13 + 1) fun x7 =>
    m_drawn_b131 N T l2 l3 l4 l5 l6 l7 l10 l12 k72 k47 n x4 l11 x6 x7))
theorem wm_drawn_b131 {κ : jK} (hκ : jStd κ) (N : Nat) {Γ : jG} (C : jC κ Γ cX2_drawn 14 RX2 (some .int)) {G : Nat → Nat} {T : MS} (l2 : Int32) (l3 : Int32) (l4 : Int32) (l5 : Int32) (l6 : Int32) (l7 : Int32) (l10 : Int32) (l12 : Int32) (k72 : Int32 → Int32 → Int32 → Int32 → Option Int32) (k47 : Int32 → Int32 → Int32 → Int32 → Option Int32) {v : Int32} (hk72 : ∀ (l4 : Int32) (l8 : Int32) (l9 : Int32) (l10 : Int32), k72 l4 l8 l9 l10 = some v → J κ Γ (3, 0, 0, (fun u w' => u = some (.int v) ∧ w' = wM κ G T)) 14 (wM κ G T) 0 0 72 [some (.ref (G 0)), none, some (.int l2), some (.int l3), some (.int l4), some (.int l5), some (.int l6), some (.int l7), some (.int l8), some (.int l9), some (.int l10), none, none, none] []) (hk47 : ∀ (l4 : Int32) (l5 : Int32) (l6 : Int32) (l7 : Int32), k47 l4 l5 l6 l7 = some v → J κ Γ (3, 0, 0, (fun u w' => u = some (.int v) ∧ w' = wM κ G T)) 14 (wM κ G T) 0 0 47 [some (.ref (G 0)), none, some (.int l2), some (.int l3), some (.int l4), some (.int l5), some (.int l6), some (.int l7), none, none, none, none, none, none] []) : ∀ (n : Nat) (l8 : Int32) (l9 : Int32) (l11 : Int32) (l13 : Int32), m_drawn_b131 N T l2 l3 l4 l5 l6 l7 l10 l12 k72 k47 n l8 l9 l11 l13 = some v → J κ Γ (3, 0, 0, (fun u w' => u = some (.int v) ∧ w' = wM κ G T)) 14 (wM κ G T) 0 0 131 [some (.ref (G 0)), none, some (.int l2), some (.int l3), some (.int l4), some (.int l5), some (.int l6), some (.int l7), some (.int l8), some (.int l9), some (.int l10), some (.int l11), some (.int l12), some (.int l13)] [] := by
  intro n
  induction n with
  | zero => intro _ _ _ _ h; cases h
  | succ n ih =>
    intro l8 l9 l11 l13 h
    rw [m_drawn_b131] at h
    refine j_iload C dX2_drawn_131 rfl ?_
    refine j_aload_n C dX2_drawn_133 rfl rfl ?_
    refine jm_geti hκ C 0 (by decide) rfl q1637 dX2_drawn_134 ?_
    refine j_icmp_ge C dX2_drawn_137 (tgt := 182) (by decide) (fun c => ?_) (fun c => ?_)
    · replace h := ip c h
      refine j_iincN C h dX2_drawn_182 rfl rfl (by decide) rfl (fun x1 h => ?_)
      refine j_goto C dX2_drawn_185 (tgt := 72) (by decide) ?_
      exact j_sub (hk72 _ _ _ _ h) ⟨rfl, ⟨rfl, ⟨rfl, ⟨rfl, ⟨rfl, ⟨rfl, ⟨rfl, ⟨rfl, ⟨rfl, ⟨rfl, trivial⟩⟩⟩⟩⟩⟩⟩⟩⟩⟩
    replace h := im c h
    refine j_iload C dX2_drawn_140 rfl ?_
    refine j_aload_n C dX2_drawn_142 rfl rfl ?_
    refine j_iload C dX2_drawn_143 rfl ?_
    refine j_iload C dX2_drawn_145 rfl ?_
    obtain ⟨v3, e2, h⟩ := ob h
    refine jm_Vi hκ C (mt_m_minutes hκ G e2) hG_m_minutes hy_m_minutes rfl rfl dX2_drawn_147 (jfit.of (Nat.le_of_ble_eq_true rfl) (by decide) (Nat.zero_le _) (Nat.zero_le _) (Nat.le_of_ble_eq_true rfl)) rfl ?_
    refine j_aload_n C dX2_drawn_150 rfl rfl ?_
    refine jm_geta hκ C 5 (by decide) rfl q1642 dX2_drawn_151 ?_
    refine j_iconst C (v := 3) dX2_drawn_154 rfl ?_
    refine jm_ialdK hκ C 5 3 rfl rfl (vp_k rfl) dX2_drawn_155 ?_
    refine j_iadd C dX2_drawn_156 ?_
    refine j_iadd C dX2_drawn_157 ?_
    refine j_nmI h (fun x4 h => ?_)
    refine j_istore C dX2_drawn_158 (by decide) rfl ?_
    refine j_iload C dX2_drawn_160 rfl ?_
    refine j_istore C dX2_drawn_162 (by decide) rfl ?_
    refine j_iload C dX2_drawn_164 rfl ?_
    refine j_iload C dX2_drawn_166 rfl ?_
    refine j_iadd C dX2_drawn_168 ?_
    refine j_aload_n C dX2_drawn_169 rfl rfl ?_
    refine jm_geti hκ C 0 (by decide) rfl q1637 dX2_drawn_170 ?_
    obtain ⟨z5, h⟩ := nz_some h
    refine j_irem C dX2_drawn_173 z5 ?_
    refine j_nmI h (fun x6 h => ?_)
    refine j_istore C dX2_drawn_174 (by decide) rfl ?_
    refine j_iincN C h dX2_drawn_176 rfl rfl (by decide) rfl (fun x7 h => ?_)
    refine j_goto C dX2_drawn_179 (tgt := 131) (by decide) ?_
    exact j_sub (ih _ _ _ _ h) ⟨rfl, ⟨rfl, ⟨rfl, ⟨rfl, ⟨rfl, ⟨rfl, ⟨rfl, ⟨rfl, ⟨rfl, ⟨rfl, ⟨rfl, ⟨rfl, ⟨rfl, trivial⟩⟩⟩⟩⟩⟩⟩⟩⟩⟩⟩⟩⟩
def m_drawn_b72 (N : Nat) (T : MS) (l2 : Int32) (l3 : Int32) (l5 : Int32) (l6 : Int32) (l7 : Int32) (k47 : Int32 → Int32 → Int32 → Int32 → Option Int32) : Nat → Int32 → Int32 → Int32 → Int32 → Option Int32
  | 0, _, _, _, _ => none
  | n + 1, l4, l8, l9, l10 =>
    (if (jrem l2 10) ≤ l10 then
    nm (l5 + l8) fun x1 =>
    nm (jmax l6 l8) fun x2 =>
    nm (l7 + 1) fun x3 =>
    k47 l4 x1 x2 x3
    else
    nm ((l4 * 1103515245) + 12345) fun x4 =>
    nz (T.1 0) (
    nm (jrem (jushr x4 8) (T.1 0)) fun x6 =>
    (if ((jushr x4 16) &&& 1) = 1 then
    nm ((T.1 0) - 1) fun x7 =>
    m_drawn_b131 N T l2 l3 x4 l5 l6 l7 l10 x7 (fun y4 y8 y9 y10 => m_drawn_b72 N T l2 l3 l5 l6 l7 k47 n y4 y8 y9 y10) k47 N l8 l9 x6 0
    else
    m_drawn_b131 N T l2 l3 x4 l5 l6 l7 l10 1 (fun y4 y8 y9 y10 => m_drawn_b72 N T l2 l3 l5 l6 l7 k47 n y4 y8 y9 y10) k47 N l8 l9 x6 0)))
theorem wm_drawn_b72 {κ : jK} (hκ : jStd κ) (N : Nat) {Γ : jG} (C : jC κ Γ cX2_drawn 14 RX2 (some .int)) {G : Nat → Nat} {T : MS} (l2 : Int32) (l3 : Int32) (l5 : Int32) (l6 : Int32) (l7 : Int32) (k47 : Int32 → Int32 → Int32 → Int32 → Option Int32) {v : Int32} (hk47 : ∀ (l4 : Int32) (l5 : Int32) (l6 : Int32) (l7 : Int32), k47 l4 l5 l6 l7 = some v → J κ Γ (3, 0, 0, (fun u w' => u = some (.int v) ∧ w' = wM κ G T)) 14 (wM κ G T) 0 0 47 [some (.ref (G 0)), none, some (.int l2), some (.int l3), some (.int l4), some (.int l5), some (.int l6), some (.int l7), none, none, none, none, none, none] []) : ∀ (n : Nat) (l4 : Int32) (l8 : Int32) (l9 : Int32) (l10 : Int32), m_drawn_b72 N T l2 l3 l5 l6 l7 k47 n l4 l8 l9 l10 = some v → J κ Γ (3, 0, 0, (fun u w' => u = some (.int v) ∧ w' = wM κ G T)) 14 (wM κ G T) 0 0 72 [some (.ref (G 0)), none, some (.int l2), some (.int l3), some (.int l4), some (.int l5), some (.int l6), some (.int l7), some (.int l8), some (.int l9), some (.int l10), none, none, none] [] := by
  intro n
  induction n with
  | zero => intro _ _ _ _ h; cases h
  | succ n ih =>
    intro l4 l8 l9 l10 h
    rw [m_drawn_b72] at h
    refine j_iload C dX2_drawn_72 rfl ?_
    refine j_iload_n C dX2_drawn_74 rfl rfl ?_
    refine j_bipush C (v := 10) dX2_drawn_75 rfl ?_
    refine j_irem C dX2_drawn_77 (by decide) ?_
    refine j_icmp_ge C dX2_drawn_78 (tgt := 188) (by decide) (fun c => ?_) (fun c => ?_)
    · replace h := ip c h
      refine j_iload C dX2_drawn_188 rfl ?_
      refine j_iload C dX2_drawn_190 rfl ?_
      refine j_iadd C dX2_drawn_192 ?_
      refine j_nmI h (fun x1 h => ?_)
      refine j_istore C dX2_drawn_193 (by decide) rfl ?_
      refine j_iload C dX2_drawn_195 rfl ?_
      refine j_iload C dX2_drawn_197 rfl ?_
      refine j_mmax C dX2_drawn_199 q1977 q695 q129 q696 (Nat.le_of_ble_eq_true rfl) (Nat.le_of_ble_eq_true rfl) (Nat.zero_le _) (Nat.zero_le _) ?_
      refine j_nmI h (fun x2 h => ?_)
      refine j_istore C dX2_drawn_202 (by decide) rfl ?_
      refine j_iincN C h dX2_drawn_204 rfl rfl (by decide) rfl (fun x3 h => ?_)
      refine j_goto C dX2_drawn_207 (tgt := 47) (by decide) ?_
      exact j_sub (hk47 _ _ _ _ h) ⟨rfl, ⟨rfl, ⟨rfl, ⟨rfl, ⟨rfl, ⟨rfl, ⟨rfl, trivial⟩⟩⟩⟩⟩⟩⟩
    replace h := im c h
    refine j_iload C dX2_drawn_81 rfl ?_
    refine j_ldc_w C (v := 1103515245) dX2_drawn_83 q2134 ?_
    refine j_imul C dX2_drawn_86 ?_
    refine j_sipush C (v := 12345) dX2_drawn_87 rfl ?_
    refine j_iadd C dX2_drawn_90 ?_
    refine j_nmI h (fun x4 h => ?_)
    refine j_istore C dX2_drawn_91 (by decide) rfl ?_
    refine j_iload C dX2_drawn_93 rfl ?_
    refine j_bipush C (v := 8) dX2_drawn_95 rfl ?_
    refine j_iushr C dX2_drawn_97 ?_
    refine j_aload_n C dX2_drawn_98 rfl rfl ?_
    refine jm_geti hκ C 0 (by decide) rfl q1637 dX2_drawn_99 ?_
    obtain ⟨z5, h⟩ := nz_some h
    refine j_irem C dX2_drawn_102 z5 ?_
    refine j_nmI h (fun x6 h => ?_)
    refine j_istore C dX2_drawn_103 (by decide) rfl ?_
    refine j_iload C dX2_drawn_105 rfl ?_
    refine j_bipush C (v := 16) dX2_drawn_107 rfl ?_
    refine j_iushr C dX2_drawn_109 ?_
    refine j_iconst C (v := 1) dX2_drawn_110 rfl ?_
    refine j_iand C dX2_drawn_111 ?_
    refine j_iconst C (v := 1) dX2_drawn_112 rfl ?_
    refine j_icmp_ne C dX2_drawn_113 (tgt := 125) (by decide) (fun c => ?_) (fun c => ?_)
    · replace h := im c h
      refine j_iconst C (v := 1) dX2_drawn_125 rfl ?_
      refine j_istore C dX2_drawn_126 (by decide) rfl ?_
      refine j_iconst C (v := 0) dX2_drawn_128 rfl ?_
      refine j_istore C dX2_drawn_129 (by decide) rfl ?_
      exact j_sub (wm_drawn_b131 hκ N C _ _ _ _ _ _ _ _ _ _ (fun _ _ _ _ h => ih _ _ _ _ h) hk47 N _ _ _ _ h) ⟨rfl, ⟨rfl, ⟨rfl, ⟨rfl, ⟨rfl, ⟨rfl, ⟨rfl, ⟨rfl, ⟨rfl, ⟨rfl, ⟨rfl, ⟨rfl, ⟨rfl, trivial⟩⟩⟩⟩⟩⟩⟩⟩⟩⟩⟩⟩⟩
    replace h := ip c h
    refine j_aload_n C dX2_drawn_116 rfl rfl ?_
    refine jm_geti hκ C 0 (by decide) rfl q1637 dX2_drawn_117 ?_
    refine j_iconst C (v := 1) dX2_drawn_120 rfl ?_
    refine j_isub C dX2_drawn_121 ?_
    refine j_goto C dX2_drawn_122 (tgt := 126) (by decide) ?_
    refine j_nmI h (fun x7 h => ?_)
    refine j_istore C dX2_drawn_126 (by decide) rfl ?_
    refine j_iconst C (v := 0) dX2_drawn_128 rfl ?_
    refine j_istore C dX2_drawn_129 (by decide) rfl ?_
    exact j_sub (wm_drawn_b131 hκ N C _ _ _ _ _ _ _ _ _ _ (fun _ _ _ _ h => ih _ _ _ _ h) hk47 N _ _ _ _ h) ⟨rfl, ⟨rfl, ⟨rfl, ⟨rfl, ⟨rfl, ⟨rfl, ⟨rfl, ⟨rfl, ⟨rfl, ⟨rfl, ⟨rfl, ⟨rfl, ⟨rfl, trivial⟩⟩⟩⟩⟩⟩⟩⟩⟩⟩⟩⟩⟩
def m_drawn_b47 (N : Nat) (T : MS) (l2 : Int32) (l3 : Int32) : Nat → Int32 → Int32 → Int32 → Int32 → Option Int32
  | 0, _, _, _, _ => none
  | n + 1, l4, l5, l6, l7 =>
    (if (l2 / 10) ≤ l7 then
    (if l3 = 0 then
    some l5
    else
    some l6)
    else
    (if (T.1 0) ≤ 0 then
    (if l3 = 0 then
    some l5
    else
    some l6)
    else
    m_drawn_b72 N T l2 l3 l5 l6 l7 (fun y4 y5 y6 y7 => m_drawn_b47 N T l2 l3 n y4 y5 y6 y7) N l4 0 (-1) 0))
theorem wm_drawn_b47 {κ : jK} (hκ : jStd κ) (N : Nat) {Γ : jG} (C : jC κ Γ cX2_drawn 14 RX2 (some .int)) {G : Nat → Nat} {T : MS} (l2 : Int32) (l3 : Int32) {v : Int32} : ∀ (n : Nat) (l4 : Int32) (l5 : Int32) (l6 : Int32) (l7 : Int32), m_drawn_b47 N T l2 l3 n l4 l5 l6 l7 = some v → J κ Γ (3, 0, 0, (fun u w' => u = some (.int v) ∧ w' = wM κ G T)) 14 (wM κ G T) 0 0 47 [some (.ref (G 0)), none, some (.int l2), some (.int l3), some (.int l4), some (.int l5), some (.int l6), some (.int l7), none, none, none, none, none, none] [] := by
  intro n
  induction n with
  | zero => intro _ _ _ _ h; cases h
  | succ n ih =>
    intro l4 l5 l6 l7 h
    rw [m_drawn_b47] at h
    refine j_iload C dX2_drawn_47 rfl ?_
    refine j_iload_n C dX2_drawn_49 rfl rfl ?_
    refine j_bipush C (v := 10) dX2_drawn_50 rfl ?_
    refine j_idiv C dX2_drawn_52 (by decide) ?_
    refine j_icmp_ge C dX2_drawn_53 (tgt := 210) (by decide) (fun c => ?_) (fun c => ?_)
    · replace h := ip c h
      refine j_iload_n C dX2_drawn_210 rfl rfl ?_
      refine j_if_ne C dX2_drawn_211 (tgt := 219) (by decide) (fun c => ?_) (fun c => ?_)
      · replace h := im c h
        refine j_iload C dX2_drawn_219 rfl ?_
        obtain rfl := sp1 h
        exact j_iret C dX2_drawn_221 (Nat.zero_le _) (Nat.zero_le _) ⟨rfl, rfl⟩
      replace h := ip c h
      refine j_iload C dX2_drawn_214 rfl ?_
      refine j_goto C dX2_drawn_216 (tgt := 221) (by decide) ?_
      obtain rfl := sp1 h
      exact j_iret C dX2_drawn_221 (Nat.zero_le _) (Nat.zero_le _) ⟨rfl, rfl⟩
    replace h := im c h
    refine j_aload_n C dX2_drawn_56 rfl rfl ?_
    refine jm_geti hκ C 0 (by decide) rfl q1637 dX2_drawn_57 ?_
    refine j_if_le C dX2_drawn_60 (tgt := 210) (by decide) (fun c => ?_) (fun c => ?_)
    · replace h := ip c h
      refine j_iload_n C dX2_drawn_210 rfl rfl ?_
      refine j_if_ne C dX2_drawn_211 (tgt := 219) (by decide) (fun c => ?_) (fun c => ?_)
      · replace h := im c h
        refine j_iload C dX2_drawn_219 rfl ?_
        obtain rfl := sp1 h
        exact j_iret C dX2_drawn_221 (Nat.zero_le _) (Nat.zero_le _) ⟨rfl, rfl⟩
      replace h := ip c h
      refine j_iload C dX2_drawn_214 rfl ?_
      refine j_goto C dX2_drawn_216 (tgt := 221) (by decide) ?_
      obtain rfl := sp1 h
      exact j_iret C dX2_drawn_221 (Nat.zero_le _) (Nat.zero_le _) ⟨rfl, rfl⟩
    replace h := im c h
    refine j_iconst C (v := 0) dX2_drawn_63 rfl ?_
    refine j_istore C dX2_drawn_64 (by decide) rfl ?_
    refine j_iconst C (v := (-1)) dX2_drawn_66 rfl ?_
    refine j_istore C dX2_drawn_67 (by decide) rfl ?_
    refine j_iconst C (v := 0) dX2_drawn_69 rfl ?_
    refine j_istore C dX2_drawn_70 (by decide) rfl ?_
    exact j_sub (wm_drawn_b72 hκ N C _ _ _ _ _ _ (fun _ _ _ _ h => ih _ _ _ _ h) N _ _ _ _ h) ⟨rfl, ⟨rfl, ⟨rfl, ⟨rfl, ⟨rfl, ⟨rfl, ⟨rfl, ⟨rfl, ⟨rfl, ⟨rfl, trivial⟩⟩⟩⟩⟩⟩⟩⟩⟩⟩
def m_drawn (N : Nat) (T : MS) (p1 : Int32) (p2 : Int32) (p3 : Int32) : Option Int32 :=
  (if p2 < 0 then
  some (-1)
  else
  (m_within (p2 / 10) 1 30).bind fun v2 =>
  (if (b2i v2) = 0 then
  some (-1)
  else
  (if (jrem p2 10) = 0 then
  some (-1)
  else
  (m_within p3 0 1).bind fun v4 =>
  (if (b2i v4) = 0 then
  some (-1)
  else
  m_drawn_b47 N T p2 p3 N p1 0 0 0))))
theorem mt_m_drawn {κ : jK} (hκ : jStd κ) (N : Nat) (G : Nat → Nat) {T : MS} {p1 : Int32} {p2 : Int32} {p3 : Int32} {v : Int32} (h : m_drawn N T p1 p2 p3 = some v) : jM κ yX2_drawn (ws_ yX2_drawn cX2_drawn 14 (some .int)) 3 0 0 [.ref (G 0), .int p1, .int p2, .int p3] (wM κ G T) (fun u w' => u = some (.int v) ∧ w' = wM κ G T) := by
  rw [m_drawn] at h
  refine jM.of (by decide) rfl (Nat.le_of_ble_eq_true rfl) fun Γ C _ => ?_
  show J κ Γ (3, 0, 0, (fun u w' => u = some (.int v) ∧ w' = wM κ G T)) 14 (wM κ G T) 0 0 0 [some (.ref (G 0)), some (.int p1), some (.int p2), some (.int p3), none, none, none, none, none, none, none, none, none, none] []
  refine j_iload_n C dX2_drawn_0 rfl rfl ?_
  refine j_if_lt C dX2_drawn_1 (tgt := 33) (by decide) (fun c => ?_) (fun c => ?_)
  · replace h := ip c h
    refine j_iconst C (v := (-1)) dX2_drawn_33 rfl ?_
    obtain rfl := sp1 h
    exact j_iret C dX2_drawn_34 (Nat.zero_le _) (Nat.zero_le _) ⟨rfl, rfl⟩
  replace h := im c h
  refine j_iload_n C dX2_drawn_4 rfl rfl ?_
  refine j_bipush C (v := 10) dX2_drawn_5 rfl ?_
  refine j_idiv C dX2_drawn_7 (by decide) ?_
  refine j_iconst C (v := 1) dX2_drawn_8 rfl ?_
  refine j_bipush C (v := 30) dX2_drawn_9 rfl ?_
  obtain ⟨v2, e1, h⟩ := ob h
  refine j_Si hκ.1 C (mt_m_within hκ e1) hG_m_within hy_m_within rfl dX2_drawn_11 (jfit.of (Nat.le_of_ble_eq_true rfl) (by decide) (Nat.zero_le _) (Nat.zero_le _) (Nat.le_of_ble_eq_true rfl)) rfl ?_
  refine j_if_eq C dX2_drawn_14 (tgt := 33) (by decide) (fun c => ?_) (fun c => ?_)
  · replace h := ip c h
    refine j_iconst C (v := (-1)) dX2_drawn_33 rfl ?_
    obtain rfl := sp1 h
    exact j_iret C dX2_drawn_34 (Nat.zero_le _) (Nat.zero_le _) ⟨rfl, rfl⟩
  replace h := im c h
  refine j_iload_n C dX2_drawn_17 rfl rfl ?_
  refine j_bipush C (v := 10) dX2_drawn_18 rfl ?_
  refine j_irem C dX2_drawn_20 (by decide) ?_
  refine j_if_eq C dX2_drawn_21 (tgt := 33) (by decide) (fun c => ?_) (fun c => ?_)
  · replace h := ip c h
    refine j_iconst C (v := (-1)) dX2_drawn_33 rfl ?_
    obtain rfl := sp1 h
    exact j_iret C dX2_drawn_34 (Nat.zero_le _) (Nat.zero_le _) ⟨rfl, rfl⟩
  replace h := im c h
  refine j_iload_n C dX2_drawn_24 rfl rfl ?_
  refine j_iconst C (v := 0) dX2_drawn_25 rfl ?_
  refine j_iconst C (v := 1) dX2_drawn_26 rfl ?_
  obtain ⟨v4, e3, h⟩ := ob h
  refine j_Si hκ.1 C (mt_m_within hκ e3) hG_m_within hy_m_within rfl dX2_drawn_27 (jfit.of (Nat.le_of_ble_eq_true rfl) (by decide) (Nat.zero_le _) (Nat.zero_le _) (Nat.le_of_ble_eq_true rfl)) rfl ?_
  refine j_if_ne C dX2_drawn_30 (tgt := 35) (by decide) (fun c => ?_) (fun c => ?_)
  · replace h := im c h
    refine j_iload_n C dX2_drawn_35 rfl rfl ?_
    refine j_istore C dX2_drawn_36 (by decide) rfl ?_
    refine j_iconst C (v := 0) dX2_drawn_38 rfl ?_
    refine j_istore C dX2_drawn_39 (by decide) rfl ?_
    refine j_iconst C (v := 0) dX2_drawn_41 rfl ?_
    refine j_istore C dX2_drawn_42 (by decide) rfl ?_
    refine j_iconst C (v := 0) dX2_drawn_44 rfl ?_
    refine j_istore C dX2_drawn_45 (by decide) rfl ?_
    exact j_sub (wm_drawn_b47 hκ N C _ _ N _ _ _ _ h) ⟨rfl, ⟨rfl, ⟨rfl, ⟨rfl, ⟨rfl, ⟨rfl, ⟨rfl, trivial⟩⟩⟩⟩⟩⟩⟩
  replace h := ip c h
  refine j_iconst C (v := (-1)) dX2_drawn_33 rfl ?_
  obtain rfl := sp1 h
  exact j_iret C dX2_drawn_34 (Nat.zero_le _) (Nat.zero_le _) ⟨rfl, rfl⟩
/-! walk -/
def m_walk (T : MS) (p1 : Int32) : Option (Int32 × MS) :=
  (m_isPost T p1.toInt64).bind fun v2 =>
  (if (b2i v2) = 0 then
  some ((-1), T)
  else
  (m_minutes T (T.1 24) p1).bind fun v4 =>
  (if (((T.1 25) + v4) + (T.2.1 5 3)) ≤ 9999 then
  nm (sI T 25 ((T.1 25) + (v4 + (T.2.1 5 3)))) fun T5 =>
  nm (sI T5 24 p1) fun T6 =>
  chk 9 p1 (
  chk 9 p1 (
  nm (sA T6 26 p1.toNatClampNeg ((T6.2.1 26 p1.toNatClampNeg) + 1)) fun T8 =>
  nm (sA T8 27 0 ((T8.2.1 27 0) + v4)) fun T10 =>
  nm (sA T10 27 1 ((T10.2.1 27 1) + 1)) fun T11 =>
  nm (sA T11 27 2 ((T11.2.1 27 2) + (T11.2.1 5 3))) fun T12 =>
  some (T12.1 25, T12)))
  else
  some ((-5), T)))
theorem mt_m_walk {κ : jK} (hκ : jStd κ) (G : Nat → Nat) {T : MS} {p1 : Int32} {v : Int32} {T' : MS} (h : m_walk T p1 = some (v, T')) : jM κ yX2_walk (ws_ yX2_walk cX2_walk 3 (some .int)) 3 0 0 [.ref (G 0), .int p1] (wM κ G T) (fun u w' => u = some (.int v) ∧ w' = wM κ G T') := by
  rw [m_walk] at h
  refine jM.of (by decide) rfl (Nat.le_of_ble_eq_true rfl) fun Γ C _ => ?_
  show J κ Γ (3, 0, 0, (fun u w' => u = some (.int v) ∧ w' = wM κ G T')) 3 (wM κ G T) 0 0 0 [some (.ref (G 0)), some (.int p1), none] []
  refine j_aload_n C dX2_walk_0 rfl rfl ?_
  refine j_iload_n C dX2_walk_1 rfl rfl ?_
  refine j_i2l C dX2_walk_2 ?_
  obtain ⟨v2, e1, h⟩ := ob h
  refine jm_Vi hκ C (mt_m_isPost hκ G e1) hG_m_isPost hy_m_isPost rfl rfl dX2_walk_3 (jfit.of (Nat.le_of_ble_eq_true rfl) (by decide) (Nat.zero_le _) (Nat.zero_le _) (Nat.le_of_ble_eq_true rfl)) rfl ?_
  refine j_if_ne C dX2_walk_6 (tgt := 11) (by decide) (fun c => ?_) (fun c => ?_)
  · replace h := im c h
    refine j_aload_n C dX2_walk_11 rfl rfl ?_
    refine j_aload_n C dX2_walk_12 rfl rfl ?_
    refine jm_geti hκ C 24 (by decide) rfl q1661 dX2_walk_13 ?_
    refine j_iload_n C dX2_walk_16 rfl rfl ?_
    obtain ⟨v4, e3, h⟩ := ob h
    refine jm_Vi hκ C (mt_m_minutes hκ G e3) hG_m_minutes hy_m_minutes rfl rfl dX2_walk_17 (jfit.of (Nat.le_of_ble_eq_true rfl) (by decide) (Nat.zero_le _) (Nat.zero_le _) (Nat.le_of_ble_eq_true rfl)) rfl ?_
    refine j_istore_n C dX2_walk_20 rfl (by decide) rfl ?_
    refine j_aload_n C dX2_walk_21 rfl rfl ?_
    refine jm_geti hκ C 25 (by decide) rfl q1662 dX2_walk_22 ?_
    refine j_iload_n C dX2_walk_25 rfl rfl ?_
    refine j_iadd C dX2_walk_26 ?_
    refine j_aload_n C dX2_walk_27 rfl rfl ?_
    refine jm_geta hκ C 5 (by decide) rfl q1642 dX2_walk_28 ?_
    refine j_iconst C (v := 3) dX2_walk_31 rfl ?_
    refine jm_ialdK hκ C 5 3 rfl rfl (vp_k rfl) dX2_walk_32 ?_
    refine j_iadd C dX2_walk_33 ?_
    refine j_sipush C (v := 9999) dX2_walk_34 rfl ?_
    refine j_icmp_le C dX2_walk_37 (tgt := 43) (by decide) (fun c => ?_) (fun c => ?_)
    · replace h := ip c h
      refine j_aload_n C dX2_walk_43 rfl rfl ?_
      refine j_dup C dX2_walk_44 rfl ?_
      refine jm_geti hκ C 25 (by decide) rfl q1662 dX2_walk_45 ?_
      refine j_iload_n C dX2_walk_48 rfl rfl ?_
      refine j_aload_n C dX2_walk_49 rfl rfl ?_
      refine jm_geta hκ C 5 (by decide) rfl q1642 dX2_walk_50 ?_
      refine j_iconst C (v := 3) dX2_walk_53 rfl ?_
      refine jm_ialdK hκ C 5 3 rfl rfl (vp_k rfl) dX2_walk_54 ?_
      refine j_iadd C dX2_walk_55 ?_
      refine j_iadd C dX2_walk_56 ?_
      refine jm_puti hκ C 25 (by decide) rfl rfl rfl q1662 dX2_walk_57 ?_
      refine jm_nmT h (fun T5 h => ?_)
      refine j_aload_n C dX2_walk_60 rfl rfl ?_
      refine j_iload_n C dX2_walk_61 rfl rfl ?_
      refine jm_puti hκ C 24 (by decide) rfl rfl rfl q1661 dX2_walk_62 ?_
      refine jm_nmT h (fun T6 h => ?_)
      refine j_aload_n C dX2_walk_65 rfl rfl ?_
      refine jm_geta hκ C 26 (by decide) rfl q1663 dX2_walk_66 ?_
      refine j_iload_n C dX2_walk_69 rfl rfl ?_
      refine j_dup2 C dX2_walk_70 rfl rfl ?_
      obtain ⟨b7, h⟩ := chk_some h
      refine jm_iald hκ C 26 rfl b7 dX2_walk_71 ?_
      refine j_iconst C (v := 1) dX2_walk_72 rfl ?_
      refine j_iadd C dX2_walk_73 ?_
      obtain ⟨b9, h⟩ := chk_some h
      refine jm_iast hκ C 26 rfl b9 dX2_walk_74 ?_
      refine jm_nmT h (fun T8 h => ?_)
      refine j_aload_n C dX2_walk_75 rfl rfl ?_
      refine jm_geta hκ C 27 (by decide) rfl q1664 dX2_walk_76 ?_
      refine j_iconst C (v := 0) dX2_walk_79 rfl ?_
      refine j_dup2 C dX2_walk_80 rfl rfl ?_
      refine jm_ialdK hκ C 27 0 rfl rfl (vp_k rfl) dX2_walk_81 ?_
      refine j_iload_n C dX2_walk_82 rfl rfl ?_
      refine j_iadd C dX2_walk_83 ?_
      refine jm_iastK hκ C 27 0 rfl rfl (vp_k rfl) dX2_walk_84 ?_
      refine jm_nmT h (fun T10 h => ?_)
      refine j_aload_n C dX2_walk_85 rfl rfl ?_
      refine jm_geta hκ C 27 (by decide) rfl q1664 dX2_walk_86 ?_
      refine j_iconst C (v := 1) dX2_walk_89 rfl ?_
      refine j_dup2 C dX2_walk_90 rfl rfl ?_
      refine jm_ialdK hκ C 27 1 rfl rfl (vp_k rfl) dX2_walk_91 ?_
      refine j_iconst C (v := 1) dX2_walk_92 rfl ?_
      refine j_iadd C dX2_walk_93 ?_
      refine jm_iastK hκ C 27 1 rfl rfl (vp_k rfl) dX2_walk_94 ?_
      refine jm_nmT h (fun T11 h => ?_)
      refine j_aload_n C dX2_walk_95 rfl rfl ?_
      refine jm_geta hκ C 27 (by decide) rfl q1664 dX2_walk_96 ?_
      refine j_iconst C (v := 2) dX2_walk_99 rfl ?_
      refine j_dup2 C dX2_walk_100 rfl rfl ?_
      refine jm_ialdK hκ C 27 2 rfl rfl (vp_k rfl) dX2_walk_101 ?_
      refine j_aload_n C dX2_walk_102 rfl rfl ?_
      refine jm_geta hκ C 5 (by decide) rfl q1642 dX2_walk_103 ?_
      refine j_iconst C (v := 3) dX2_walk_106 rfl ?_
      refine jm_ialdK hκ C 5 3 rfl rfl (vp_k rfl) dX2_walk_107 ?_
      refine j_iadd C dX2_walk_108 ?_
      refine jm_iastK hκ C 27 2 rfl rfl (vp_k rfl) dX2_walk_109 ?_
      refine jm_nmT h (fun T12 h => ?_)
      refine j_aload_n C dX2_walk_110 rfl rfl ?_
      refine jm_geti hκ C 25 (by decide) rfl q1662 dX2_walk_111 ?_
      obtain ⟨rfl, rfl⟩ := sp2 h
      exact j_iret C dX2_walk_114 (Nat.zero_le _) (Nat.zero_le _) ⟨rfl, rfl⟩
    replace h := im c h
    refine j_bipush C (v := (-5)) dX2_walk_40 rfl ?_
    obtain ⟨rfl, rfl⟩ := sp2 h
    exact j_iret C dX2_walk_42 (Nat.zero_le _) (Nat.zero_le _) ⟨rfl, rfl⟩
  replace h := ip c h
  refine j_iconst C (v := (-1)) dX2_walk_9 rfl ?_
  obtain ⟨rfl, rfl⟩ := sp2 h
  exact j_iret C dX2_walk_10 (Nat.zero_le _) (Nat.zero_le _) ⟨rfl, rfl⟩
/-! waits -/
def m_waits (T : MS) (p1 : Int32) : Option (Int32 × MS) :=
  (m_within p1 1 999).bind fun v2 =>
  (if (b2i v2) = 0 then
  some ((-1), T)
  else
  (if ((T.1 25) + p1) ≤ 9999 then
  nm (sI T 25 ((T.1 25) + p1)) fun T3 =>
  nm (sA T3 27 3 ((T3.2.1 27 3) + p1)) fun T4 =>
  some (T4.1 25, T4)
  else
  some ((-5), T)))
theorem mt_m_waits {κ : jK} (hκ : jStd κ) (G : Nat → Nat) {T : MS} {p1 : Int32} {v : Int32} {T' : MS} (h : m_waits T p1 = some (v, T')) : jM κ yX2_waits (ws_ yX2_waits cX2_waits 2 (some .int)) 1 0 0 [.ref (G 0), .int p1] (wM κ G T) (fun u w' => u = some (.int v) ∧ w' = wM κ G T') := by
  rw [m_waits] at h
  refine jM.of (by decide) rfl (Nat.le_of_ble_eq_true rfl) fun Γ C _ => ?_
  show J κ Γ (1, 0, 0, (fun u w' => u = some (.int v) ∧ w' = wM κ G T')) 2 (wM κ G T) 0 0 0 [some (.ref (G 0)), some (.int p1)] []
  refine j_iload_n C dX2_waits_0 rfl rfl ?_
  refine j_iconst C (v := 1) dX2_waits_1 rfl ?_
  refine j_sipush C (v := 999) dX2_waits_2 rfl ?_
  obtain ⟨v2, e1, h⟩ := ob h
  refine j_Si hκ.1 C (mt_m_within hκ e1) hG_m_within hy_m_within rfl dX2_waits_5 (jfit.of (Nat.le_of_ble_eq_true rfl) (by decide) (Nat.zero_le _) (Nat.zero_le _) (Nat.le_of_ble_eq_true rfl)) rfl ?_
  refine j_if_ne C dX2_waits_8 (tgt := 13) (by decide) (fun c => ?_) (fun c => ?_)
  · replace h := im c h
    refine j_aload_n C dX2_waits_13 rfl rfl ?_
    refine jm_geti hκ C 25 (by decide) rfl q1662 dX2_waits_14 ?_
    refine j_iload_n C dX2_waits_17 rfl rfl ?_
    refine j_iadd C dX2_waits_18 ?_
    refine j_sipush C (v := 9999) dX2_waits_19 rfl ?_
    refine j_icmp_le C dX2_waits_22 (tgt := 28) (by decide) (fun c => ?_) (fun c => ?_)
    · replace h := ip c h
      refine j_aload_n C dX2_waits_28 rfl rfl ?_
      refine j_dup C dX2_waits_29 rfl ?_
      refine jm_geti hκ C 25 (by decide) rfl q1662 dX2_waits_30 ?_
      refine j_iload_n C dX2_waits_33 rfl rfl ?_
      refine j_iadd C dX2_waits_34 ?_
      refine jm_puti hκ C 25 (by decide) rfl rfl rfl q1662 dX2_waits_35 ?_
      refine jm_nmT h (fun T3 h => ?_)
      refine j_aload_n C dX2_waits_38 rfl rfl ?_
      refine jm_geta hκ C 27 (by decide) rfl q1664 dX2_waits_39 ?_
      refine j_iconst C (v := 3) dX2_waits_42 rfl ?_
      refine j_dup2 C dX2_waits_43 rfl rfl ?_
      refine jm_ialdK hκ C 27 3 rfl rfl (vp_k rfl) dX2_waits_44 ?_
      refine j_iload_n C dX2_waits_45 rfl rfl ?_
      refine j_iadd C dX2_waits_46 ?_
      refine jm_iastK hκ C 27 3 rfl rfl (vp_k rfl) dX2_waits_47 ?_
      refine jm_nmT h (fun T4 h => ?_)
      refine j_aload_n C dX2_waits_48 rfl rfl ?_
      refine jm_geti hκ C 25 (by decide) rfl q1662 dX2_waits_49 ?_
      obtain ⟨rfl, rfl⟩ := sp2 h
      exact j_iret C dX2_waits_52 (Nat.zero_le _) (Nat.zero_le _) ⟨rfl, rfl⟩
    replace h := im c h
    refine j_bipush C (v := (-5)) dX2_waits_25 rfl ?_
    obtain ⟨rfl, rfl⟩ := sp2 h
    exact j_iret C dX2_waits_27 (Nat.zero_le _) (Nat.zero_le _) ⟨rfl, rfl⟩
  replace h := ip c h
  refine j_iconst C (v := (-1)) dX2_waits_11 rfl ?_
  obtain ⟨rfl, rfl⟩ := sp2 h
  exact j_iret C dX2_waits_12 (Nat.zero_le _) (Nat.zero_le _) ⟨rfl, rfl⟩
/-! home -/
def m_home (T : MS) : Option (Int32 × MS) :=
  (m_minutes T (T.1 24) (-1)).bind fun v2 =>
  (if ((T.1 25) + v2) ≤ 9999 then
  nm (sI T 25 ((T.1 25) + v2)) fun T3 =>
  nm (sI T3 24 (-1)) fun T4 =>
  nm (sA T4 27 0 ((T4.2.1 27 0) + v2)) fun T5 =>
  some (T5.1 25, T5)
  else
  some ((-5), T))
theorem mt_m_home {κ : jK} (hκ : jStd κ) (G : Nat → Nat) {T : MS} {v : Int32} {T' : MS} (h : m_home T = some (v, T')) : jM κ yX2_home (ws_ yX2_home cX2_home 2 (some .int)) 3 0 0 [.ref (G 0)] (wM κ G T) (fun u w' => u = some (.int v) ∧ w' = wM κ G T') := by
  rw [m_home] at h
  refine jM.of (by decide) rfl (Nat.le_of_ble_eq_true rfl) fun Γ C _ => ?_
  show J κ Γ (3, 0, 0, (fun u w' => u = some (.int v) ∧ w' = wM κ G T')) 2 (wM κ G T) 0 0 0 [some (.ref (G 0)), none] []
  refine j_aload_n C dX2_home_0 rfl rfl ?_
  refine j_aload_n C dX2_home_1 rfl rfl ?_
  refine jm_geti hκ C 24 (by decide) rfl q1661 dX2_home_2 ?_
  refine j_iconst C (v := (-1)) dX2_home_5 rfl ?_
  obtain ⟨v2, e1, h⟩ := ob h
  refine jm_Vi hκ C (mt_m_minutes hκ G e1) hG_m_minutes hy_m_minutes rfl rfl dX2_home_6 (jfit.of (Nat.le_of_ble_eq_true rfl) (by decide) (Nat.zero_le _) (Nat.zero_le _) (Nat.le_of_ble_eq_true rfl)) rfl ?_
  refine j_istore_n C dX2_home_9 rfl (by decide) rfl ?_
  refine j_aload_n C dX2_home_10 rfl rfl ?_
  refine jm_geti hκ C 25 (by decide) rfl q1662 dX2_home_11 ?_
  refine j_iload_n C dX2_home_14 rfl rfl ?_
  refine j_iadd C dX2_home_15 ?_
  refine j_sipush C (v := 9999) dX2_home_16 rfl ?_
  refine j_icmp_le C dX2_home_19 (tgt := 25) (by decide) (fun c => ?_) (fun c => ?_)
  · replace h := ip c h
    refine j_aload_n C dX2_home_25 rfl rfl ?_
    refine j_dup C dX2_home_26 rfl ?_
    refine jm_geti hκ C 25 (by decide) rfl q1662 dX2_home_27 ?_
    refine j_iload_n C dX2_home_30 rfl rfl ?_
    refine j_iadd C dX2_home_31 ?_
    refine jm_puti hκ C 25 (by decide) rfl rfl rfl q1662 dX2_home_32 ?_
    refine jm_nmT h (fun T3 h => ?_)
    refine j_aload_n C dX2_home_35 rfl rfl ?_
    refine j_iconst C (v := (-1)) dX2_home_36 rfl ?_
    refine jm_puti hκ C 24 (by decide) rfl rfl rfl q1661 dX2_home_37 ?_
    refine jm_nmT h (fun T4 h => ?_)
    refine j_aload_n C dX2_home_40 rfl rfl ?_
    refine jm_geta hκ C 27 (by decide) rfl q1664 dX2_home_41 ?_
    refine j_iconst C (v := 0) dX2_home_44 rfl ?_
    refine j_dup2 C dX2_home_45 rfl rfl ?_
    refine jm_ialdK hκ C 27 0 rfl rfl (vp_k rfl) dX2_home_46 ?_
    refine j_iload_n C dX2_home_47 rfl rfl ?_
    refine j_iadd C dX2_home_48 ?_
    refine jm_iastK hκ C 27 0 rfl rfl (vp_k rfl) dX2_home_49 ?_
    refine jm_nmT h (fun T5 h => ?_)
    refine j_aload_n C dX2_home_50 rfl rfl ?_
    refine jm_geti hκ C 25 (by decide) rfl q1662 dX2_home_51 ?_
    obtain ⟨rfl, rfl⟩ := sp2 h
    exact j_iret C dX2_home_54 (Nat.zero_le _) (Nat.zero_le _) ⟨rfl, rfl⟩
  replace h := im c h
  refine j_bipush C (v := (-5)) dX2_home_22 rfl ?_
  obtain ⟨rfl, rfl⟩ := sp2 h
  exact j_iret C dX2_home_24 (Nat.zero_le _) (Nat.zero_le _) ⟨rfl, rfl⟩
/-! led -/
def m_led (T : MS) (p1 : Int32) : Option Int32 :=
  (if p1 = 4 then
  some (T.1 25)
  else
  (m_within p1 0 3).bind fun v2 =>
  (if (b2i v2) = 0 then
  some (-1)
  else
  chk 4 p1 (
  some (T.2.1 27 p1.toNatClampNeg))))
theorem mt_m_led {κ : jK} (hκ : jStd κ) (G : Nat → Nat) {T : MS} {p1 : Int32} {v : Int32} (h : m_led T p1 = some v) : jM κ yX2_led (ws_ yX2_led cX2_led 2 (some .int)) 1 0 0 [.ref (G 0), .int p1] (wM κ G T) (fun u w' => u = some (.int v) ∧ w' = wM κ G T) := by
  rw [m_led] at h
  refine jM.of (by decide) rfl (Nat.le_of_ble_eq_true rfl) fun Γ C _ => ?_
  show J κ Γ (1, 0, 0, (fun u w' => u = some (.int v) ∧ w' = wM κ G T)) 2 (wM κ G T) 0 0 0 [some (.ref (G 0)), some (.int p1)] []
  refine j_iload_n C dX2_led_0 rfl rfl ?_
  refine j_iconst C (v := 4) dX2_led_1 rfl ?_
  refine j_icmp_ne C dX2_led_2 (tgt := 12) (by decide) (fun c => ?_) (fun c => ?_)
  · replace h := im c h
    refine j_iload_n C dX2_led_12 rfl rfl ?_
    refine j_iconst C (v := 0) dX2_led_13 rfl ?_
    refine j_iconst C (v := 3) dX2_led_14 rfl ?_
    obtain ⟨v2, e1, h⟩ := ob h
    refine j_Si hκ.1 C (mt_m_within hκ e1) hG_m_within hy_m_within rfl dX2_led_15 (jfit.of (Nat.le_of_ble_eq_true rfl) (by decide) (Nat.zero_le _) (Nat.zero_le _) (Nat.le_of_ble_eq_true rfl)) rfl ?_
    refine j_if_eq C dX2_led_18 (tgt := 30) (by decide) (fun c => ?_) (fun c => ?_)
    · replace h := ip c h
      refine j_iconst C (v := (-1)) dX2_led_30 rfl ?_
      obtain rfl := sp1 h
      exact j_iret C dX2_led_31 (Nat.zero_le _) (Nat.zero_le _) ⟨rfl, rfl⟩
    replace h := im c h
    refine j_aload_n C dX2_led_21 rfl rfl ?_
    refine jm_geta hκ C 27 (by decide) rfl q1664 dX2_led_22 ?_
    refine j_iload_n C dX2_led_25 rfl rfl ?_
    obtain ⟨b3, h⟩ := chk_some h
    refine jm_iald hκ C 27 rfl b3 dX2_led_26 ?_
    refine j_goto C dX2_led_27 (tgt := 31) (by decide) ?_
    obtain rfl := sp1 h
    exact j_iret C dX2_led_31 (Nat.zero_le _) (Nat.zero_le _) ⟨rfl, rfl⟩
  replace h := ip c h
  refine j_aload_n C dX2_led_5 rfl rfl ?_
  refine jm_geti hκ C 25 (by decide) rfl q1662 dX2_led_6 ?_
  refine j_goto C dX2_led_9 (tgt := 31) (by decide) ?_
  obtain rfl := sp1 h
  exact j_iret C dX2_led_31 (Nat.zero_le _) (Nat.zero_le _) ⟨rfl, rfl⟩
/-! image -/
def m_image_b57 (N : Nat) : Nat → MS → Int32 → Option (Int32 × MS)
  | 0, _, _ => none
  | n + 1, T, l1 =>
    (if 4 ≤ l1 then
    some (T.1 25, T)
    else
    chk 4 l1 (
    chk 4 l1 (
    nm (sA T 33 l1.toNatClampNeg (T.2.1 27 l1.toNatClampNeg)) fun T2 =>
    nm (l1 + 1) fun x4 =>
    m_image_b57 N n T2 x4)))
theorem wm_image_b57 {κ : jK} (hκ : jStd κ) (N : Nat) {Γ : jG} (C : jC κ Γ cX2_image 2 RX2 (some .int)) {G : Nat → Nat}  {v : Int32} {T' : MS} : ∀ (n : Nat) (T : MS) (l1 : Int32), m_image_b57 N n T l1 = some (v, T') → J κ Γ (0, 0, 0, (fun u w' => u = some (.int v) ∧ w' = wM κ G T')) 2 (wM κ G T) 0 0 57 [some (.ref (G 0)), some (.int l1)] [] := by
  intro n
  induction n with
  | zero => intro _ _ h; cases h
  | succ n ih =>
    intro T l1 h
    rw [m_image_b57] at h
    refine j_iload_n C dX2_image_57 rfl rfl ?_
    refine j_iconst C (v := 4) dX2_image_58 rfl ?_
    refine j_icmp_ge C dX2_image_59 (tgt := 80) (by decide) (fun c => ?_) (fun c => ?_)
    · replace h := ip c h
      refine j_aload_n C dX2_image_80 rfl rfl ?_
      refine jm_geti hκ C 25 (by decide) rfl q1662 dX2_image_81 ?_
      obtain ⟨rfl, rfl⟩ := sp2 h
      exact j_iret C dX2_image_84 (Nat.zero_le _) (Nat.zero_le _) ⟨rfl, rfl⟩
    replace h := im c h
    refine j_aload_n C dX2_image_62 rfl rfl ?_
    refine jm_geta hκ C 33 (by decide) rfl q1670 dX2_image_63 ?_
    refine j_iload_n C dX2_image_66 rfl rfl ?_
    refine j_aload_n C dX2_image_67 rfl rfl ?_
    refine jm_geta hκ C 27 (by decide) rfl q1664 dX2_image_68 ?_
    refine j_iload_n C dX2_image_71 rfl rfl ?_
    obtain ⟨b1, h⟩ := chk_some h
    refine jm_iald hκ C 27 rfl b1 dX2_image_72 ?_
    obtain ⟨b3, h⟩ := chk_some h
    refine jm_iast hκ C 33 rfl b3 dX2_image_73 ?_
    refine jm_nmT h (fun T2 h => ?_)
    refine j_iincN C h dX2_image_74 rfl rfl (by decide) rfl (fun x4 h => ?_)
    refine j_goto C dX2_image_77 (tgt := 57) (by decide) ?_
    exact j_sub (ih _ _ h) ⟨rfl, ⟨rfl, trivial⟩⟩
def m_image_b31 (N : Nat) : Nat → MS → Int32 → Option (Int32 × MS)
  | 0, _, _ => none
  | n + 1, T, l1 =>
    (if 9 ≤ l1 then
    m_image_b57 N N T 0
    else
    chk 9 l1 (
    chk 9 l1 (
    nm (sA T 32 l1.toNatClampNeg (T.2.1 26 l1.toNatClampNeg)) fun T2 =>
    nm (l1 + 1) fun x4 =>
    m_image_b31 N n T2 x4)))
theorem wm_image_b31 {κ : jK} (hκ : jStd κ) (N : Nat) {Γ : jG} (C : jC κ Γ cX2_image 2 RX2 (some .int)) {G : Nat → Nat}  {v : Int32} {T' : MS} : ∀ (n : Nat) (T : MS) (l1 : Int32), m_image_b31 N n T l1 = some (v, T') → J κ Γ (0, 0, 0, (fun u w' => u = some (.int v) ∧ w' = wM κ G T')) 2 (wM κ G T) 0 0 31 [some (.ref (G 0)), some (.int l1)] [] := by
  intro n
  induction n with
  | zero => intro _ _ h; cases h
  | succ n ih =>
    intro T l1 h
    rw [m_image_b31] at h
    refine j_iload_n C dX2_image_31 rfl rfl ?_
    refine j_bipush C (v := 9) dX2_image_32 rfl ?_
    refine j_icmp_ge C dX2_image_34 (tgt := 55) (by decide) (fun c => ?_) (fun c => ?_)
    · replace h := ip c h
      refine j_iconst C (v := 0) dX2_image_55 rfl ?_
      refine j_istore_n C dX2_image_56 rfl (by decide) rfl ?_
      exact j_sub (wm_image_b57 hκ N C N _ _ h) ⟨rfl, ⟨rfl, trivial⟩⟩
    replace h := im c h
    refine j_aload_n C dX2_image_37 rfl rfl ?_
    refine jm_geta hκ C 32 (by decide) rfl q1669 dX2_image_38 ?_
    refine j_iload_n C dX2_image_41 rfl rfl ?_
    refine j_aload_n C dX2_image_42 rfl rfl ?_
    refine jm_geta hκ C 26 (by decide) rfl q1663 dX2_image_43 ?_
    refine j_iload_n C dX2_image_46 rfl rfl ?_
    obtain ⟨b1, h⟩ := chk_some h
    refine jm_iald hκ C 26 rfl b1 dX2_image_47 ?_
    obtain ⟨b3, h⟩ := chk_some h
    refine jm_iast hκ C 32 rfl b3 dX2_image_48 ?_
    refine jm_nmT h (fun T2 h => ?_)
    refine j_iincN C h dX2_image_49 rfl rfl (by decide) rfl (fun x4 h => ?_)
    refine j_goto C dX2_image_52 (tgt := 31) (by decide) ?_
    exact j_sub (ih _ _ h) ⟨rfl, ⟨rfl, trivial⟩⟩
def m_image (N : Nat) (T : MS) : Option (Int32 × MS) :=
  nm (sI T 28 1) fun T1 =>
  nm (sI T1 29 (T1.1 0)) fun T2 =>
  nm (sI T2 30 (T2.1 24)) fun T3 =>
  nm (sI T3 31 (T3.1 25)) fun T4 =>
  m_image_b31 N N T4 0
theorem mt_m_image {κ : jK} (hκ : jStd κ) (N : Nat) (G : Nat → Nat) {T : MS} {v : Int32} {T' : MS} (h : m_image N T = some (v, T')) : jM κ yX2_image (ws_ yX2_image cX2_image 2 (some .int)) 0 0 0 [.ref (G 0)] (wM κ G T) (fun u w' => u = some (.int v) ∧ w' = wM κ G T') := by
  rw [m_image] at h
  refine jM.of (by decide) rfl (Nat.le_of_ble_eq_true rfl) fun Γ C _ => ?_
  show J κ Γ (0, 0, 0, (fun u w' => u = some (.int v) ∧ w' = wM κ G T')) 2 (wM κ G T) 0 0 0 [some (.ref (G 0)), none] []
  refine j_aload_n C dX2_image_0 rfl rfl ?_
  refine j_iconst C (v := 1) dX2_image_1 rfl ?_
  refine jm_putz hκ C 28 (by decide) rfl rfl rfl rfl rfl q1665 dX2_image_2 ?_
  refine jm_nmT h (fun T1 h => ?_)
  refine j_aload_n C dX2_image_5 rfl rfl ?_
  refine j_aload_n C dX2_image_6 rfl rfl ?_
  refine jm_geti hκ C 0 (by decide) rfl q1637 dX2_image_7 ?_
  refine jm_puti hκ C 29 (by decide) rfl rfl rfl q1666 dX2_image_10 ?_
  refine jm_nmT h (fun T2 h => ?_)
  refine j_aload_n C dX2_image_13 rfl rfl ?_
  refine j_aload_n C dX2_image_14 rfl rfl ?_
  refine jm_geti hκ C 24 (by decide) rfl q1661 dX2_image_15 ?_
  refine jm_puti hκ C 30 (by decide) rfl rfl rfl q1667 dX2_image_18 ?_
  refine jm_nmT h (fun T3 h => ?_)
  refine j_aload_n C dX2_image_21 rfl rfl ?_
  refine j_aload_n C dX2_image_22 rfl rfl ?_
  refine jm_geti hκ C 25 (by decide) rfl q1662 dX2_image_23 ?_
  refine jm_puti hκ C 31 (by decide) rfl rfl rfl q1668 dX2_image_26 ?_
  refine jm_nmT h (fun T4 h => ?_)
  refine j_iconst C (v := 0) dX2_image_29 rfl ?_
  refine j_istore_n C dX2_image_30 rfl (by decide) rfl ?_
  exact j_sub (wm_image_b31 hκ N C N _ _ h) ⟨rfl, ⟨rfl, trivial⟩⟩
/-! back -/
def m_back_b66 (N : Nat) : Nat → MS → Int32 → Option (Int32 × MS)
  | 0, _, _ => none
  | n + 1, T, l1 =>
    (if 4 ≤ l1 then
    some (T.1 25, T)
    else
    chk 4 l1 (
    chk 4 l1 (
    nm (sA T 27 l1.toNatClampNeg (T.2.1 33 l1.toNatClampNeg)) fun T2 =>
    nm (l1 + 1) fun x4 =>
    m_back_b66 N n T2 x4)))
theorem wm_back_b66 {κ : jK} (hκ : jStd κ) (N : Nat) {Γ : jG} (C : jC κ Γ cX2_back 2 RX2 (some .int)) {G : Nat → Nat}  {v : Int32} {T' : MS} : ∀ (n : Nat) (T : MS) (l1 : Int32), m_back_b66 N n T l1 = some (v, T') → J κ Γ (0, 0, 0, (fun u w' => u = some (.int v) ∧ w' = wM κ G T')) 2 (wM κ G T) 0 0 66 [some (.ref (G 0)), some (.int l1)] [] := by
  intro n
  induction n with
  | zero => intro _ _ h; cases h
  | succ n ih =>
    intro T l1 h
    rw [m_back_b66] at h
    refine j_iload_n C dX2_back_66 rfl rfl ?_
    refine j_iconst C (v := 4) dX2_back_67 rfl ?_
    refine j_icmp_ge C dX2_back_68 (tgt := 89) (by decide) (fun c => ?_) (fun c => ?_)
    · replace h := ip c h
      refine j_aload_n C dX2_back_89 rfl rfl ?_
      refine jm_geti hκ C 25 (by decide) rfl q1662 dX2_back_90 ?_
      obtain ⟨rfl, rfl⟩ := sp2 h
      exact j_iret C dX2_back_93 (Nat.zero_le _) (Nat.zero_le _) ⟨rfl, rfl⟩
    replace h := im c h
    refine j_aload_n C dX2_back_71 rfl rfl ?_
    refine jm_geta hκ C 27 (by decide) rfl q1664 dX2_back_72 ?_
    refine j_iload_n C dX2_back_75 rfl rfl ?_
    refine j_aload_n C dX2_back_76 rfl rfl ?_
    refine jm_geta hκ C 33 (by decide) rfl q1670 dX2_back_77 ?_
    refine j_iload_n C dX2_back_80 rfl rfl ?_
    obtain ⟨b1, h⟩ := chk_some h
    refine jm_iald hκ C 33 rfl b1 dX2_back_81 ?_
    obtain ⟨b3, h⟩ := chk_some h
    refine jm_iast hκ C 27 rfl b3 dX2_back_82 ?_
    refine jm_nmT h (fun T2 h => ?_)
    refine j_iincN C h dX2_back_83 rfl rfl (by decide) rfl (fun x4 h => ?_)
    refine j_goto C dX2_back_86 (tgt := 66) (by decide) ?_
    exact j_sub (ih _ _ h) ⟨rfl, ⟨rfl, trivial⟩⟩
def m_back_b28 (N : Nat) : Nat → MS → Int32 → Option (Int32 × MS)
  | 0, _, _ => none
  | n + 1, T, l1 =>
    (if 9 ≤ l1 then
    m_back_b66 N N T 0
    else
    (if (T.1 29) ≤ l1 then
    chk 9 l1 (
    nm (sA T 26 l1.toNatClampNeg 0) fun T1 =>
    nm (l1 + 1) fun x3 =>
    m_back_b28 N n T1 x3)
    else
    chk 9 l1 (
    chk 9 l1 (
    nm (sA T 26 l1.toNatClampNeg (T.2.1 32 l1.toNatClampNeg)) fun T5 =>
    nm (l1 + 1) fun x7 =>
    m_back_b28 N n T5 x7))))
theorem wm_back_b28 {κ : jK} (hκ : jStd κ) (N : Nat) {Γ : jG} (C : jC κ Γ cX2_back 2 RX2 (some .int)) {G : Nat → Nat}  {v : Int32} {T' : MS} : ∀ (n : Nat) (T : MS) (l1 : Int32), m_back_b28 N n T l1 = some (v, T') → J κ Γ (0, 0, 0, (fun u w' => u = some (.int v) ∧ w' = wM κ G T')) 2 (wM κ G T) 0 0 28 [some (.ref (G 0)), some (.int l1)] [] := by
  intro n
  induction n with
  | zero => intro _ _ h; cases h
  | succ n ih =>
    intro T l1 h
    rw [m_back_b28] at h
    refine j_iload_n C dX2_back_28 rfl rfl ?_
    refine j_bipush C (v := 9) dX2_back_29 rfl ?_
    refine j_icmp_ge C dX2_back_31 (tgt := 64) (by decide) (fun c => ?_) (fun c => ?_)
    · replace h := ip c h
      refine j_iconst C (v := 0) dX2_back_64 rfl ?_
      refine j_istore_n C dX2_back_65 rfl (by decide) rfl ?_
      exact j_sub (wm_back_b66 hκ N C N _ _ h) ⟨rfl, ⟨rfl, trivial⟩⟩
    replace h := im c h
    refine j_aload_n C dX2_back_34 rfl rfl ?_
    refine jm_geta hκ C 26 (by decide) rfl q1663 dX2_back_35 ?_
    refine j_iload_n C dX2_back_38 rfl rfl ?_
    refine j_iload_n C dX2_back_39 rfl rfl ?_
    refine j_aload_n C dX2_back_40 rfl rfl ?_
    refine jm_geti hκ C 29 (by decide) rfl q1666 dX2_back_41 ?_
    refine j_icmp_ge C dX2_back_44 (tgt := 56) (by decide) (fun c => ?_) (fun c => ?_)
    · replace h := ip c h
      refine j_iconst C (v := 0) dX2_back_56 rfl ?_
      obtain ⟨b2, h⟩ := chk_some h
      refine jm_iast hκ C 26 rfl b2 dX2_back_57 ?_
      refine jm_nmT h (fun T1 h => ?_)
      refine j_iincN C h dX2_back_58 rfl rfl (by decide) rfl (fun x3 h => ?_)
      refine j_goto C dX2_back_61 (tgt := 28) (by decide) ?_
      exact j_sub (ih _ _ h) ⟨rfl, ⟨rfl, trivial⟩⟩
    replace h := im c h
    refine j_aload_n C dX2_back_47 rfl rfl ?_
    refine jm_geta hκ C 32 (by decide) rfl q1669 dX2_back_48 ?_
    refine j_iload_n C dX2_back_51 rfl rfl ?_
    obtain ⟨b4, h⟩ := chk_some h
    refine jm_iald hκ C 32 rfl b4 dX2_back_52 ?_
    refine j_goto C dX2_back_53 (tgt := 57) (by decide) ?_
    obtain ⟨b6, h⟩ := chk_some h
    refine jm_iast hκ C 26 rfl b6 dX2_back_57 ?_
    refine jm_nmT h (fun T5 h => ?_)
    refine j_iincN C h dX2_back_58 rfl rfl (by decide) rfl (fun x7 h => ?_)
    refine j_goto C dX2_back_61 (tgt := 28) (by decide) ?_
    exact j_sub (ih _ _ h) ⟨rfl, ⟨rfl, trivial⟩⟩
def m_back (N : Nat) (T : MS) : Option (Int32 × MS) :=
  (if (T.1 28) = 0 then
  some ((-5), T)
  else
  nm (sI T 24 (T.1 30)) fun T1 =>
  nm (sI T1 25 (T1.1 31)) fun T2 =>
  m_back_b28 N N T2 0)
theorem mt_m_back {κ : jK} (hκ : jStd κ) (N : Nat) (G : Nat → Nat) {T : MS} {v : Int32} {T' : MS} (h : m_back N T = some (v, T')) : jM κ yX2_back (ws_ yX2_back cX2_back 2 (some .int)) 0 0 0 [.ref (G 0)] (wM κ G T) (fun u w' => u = some (.int v) ∧ w' = wM κ G T') := by
  rw [m_back] at h
  refine jM.of (by decide) rfl (Nat.le_of_ble_eq_true rfl) fun Γ C _ => ?_
  show J κ Γ (0, 0, 0, (fun u w' => u = some (.int v) ∧ w' = wM κ G T')) 2 (wM κ G T) 0 0 0 [some (.ref (G 0)), none] []
  refine j_aload_n C dX2_back_0 rfl rfl ?_
  refine jm_geti hκ C 28 (by decide) rfl q1665 dX2_back_1 ?_
  refine j_if_ne C dX2_back_4 (tgt := 10) (by decide) (fun c => ?_) (fun c => ?_)
  · replace h := im c h
    refine j_aload_n C dX2_back_10 rfl rfl ?_
    refine j_aload_n C dX2_back_11 rfl rfl ?_
    refine jm_geti hκ C 30 (by decide) rfl q1667 dX2_back_12 ?_
    refine jm_puti hκ C 24 (by decide) rfl rfl rfl q1661 dX2_back_15 ?_
    refine jm_nmT h (fun T1 h => ?_)
    refine j_aload_n C dX2_back_18 rfl rfl ?_
    refine j_aload_n C dX2_back_19 rfl rfl ?_
    refine jm_geti hκ C 31 (by decide) rfl q1668 dX2_back_20 ?_
    refine jm_puti hκ C 25 (by decide) rfl rfl rfl q1662 dX2_back_23 ?_
    refine jm_nmT h (fun T2 h => ?_)
    refine j_iconst C (v := 0) dX2_back_26 rfl ?_
    refine j_istore_n C dX2_back_27 rfl (by decide) rfl ?_
    exact j_sub (wm_back_b28 hκ N C N _ _ h) ⟨rfl, ⟨rfl, trivial⟩⟩
  replace h := ip c h
  refine j_bipush C (v := (-5)) dX2_back_7 rfl ?_
  obtain ⟨rfl, rfl⟩ := sp2 h
  exact j_iret C dX2_back_9 (Nat.zero_le _) (Nat.zero_le _) ⟨rfl, rfl⟩
/-! body -/
def m_body (T : MS) (p1 : Int32) : Option (Int32 × MS) :=
  (m_within p1 0 7).bind fun v2 =>
  (if (b2i v2) = 0 then
  some ((-1), T)
  else
  (if (T.1 37) = 50 then
  some ((-3), T)
  else
  chk 50 (T.1 37) (
  nm (sA T 38 (T.1 37).toNatClampNeg p1) fun T3 =>
  nm (sI T3 37 ((T3.1 37) + 1)) fun T5 =>
  some (T3.1 37, T5))))
theorem mt_m_body {κ : jK} (hκ : jStd κ) (G : Nat → Nat) {T : MS} {p1 : Int32} {v : Int32} {T' : MS} (h : m_body T p1 = some (v, T')) : jM κ yX2_body (ws_ yX2_body cX2_body 2 (some .int)) 1 0 0 [.ref (G 0), .int p1] (wM κ G T) (fun u w' => u = some (.int v) ∧ w' = wM κ G T') := by
  rw [m_body] at h
  refine jM.of (by decide) rfl (Nat.le_of_ble_eq_true rfl) fun Γ C _ => ?_
  show J κ Γ (1, 0, 0, (fun u w' => u = some (.int v) ∧ w' = wM κ G T')) 2 (wM κ G T) 0 0 0 [some (.ref (G 0)), some (.int p1)] []
  refine j_iload_n C dX2_body_0 rfl rfl ?_
  refine j_iconst C (v := 0) dX2_body_1 rfl ?_
  refine j_bipush C (v := 7) dX2_body_2 rfl ?_
  obtain ⟨v2, e1, h⟩ := ob h
  refine j_Si hκ.1 C (mt_m_within hκ e1) hG_m_within hy_m_within rfl dX2_body_4 (jfit.of (Nat.le_of_ble_eq_true rfl) (by decide) (Nat.zero_le _) (Nat.zero_le _) (Nat.le_of_ble_eq_true rfl)) rfl ?_
  refine j_if_ne C dX2_body_7 (tgt := 12) (by decide) (fun c => ?_) (fun c => ?_)
  · replace h := im c h
    refine j_aload_n C dX2_body_12 rfl rfl ?_
    refine jm_geti hκ C 37 (by decide) rfl q1674 dX2_body_13 ?_
    refine j_bipush C (v := 50) dX2_body_16 rfl ?_
    refine j_icmp_ne C dX2_body_18 (tgt := 24) (by decide) (fun c => ?_) (fun c => ?_)
    · replace h := im c h
      refine j_aload_n C dX2_body_24 rfl rfl ?_
      refine jm_geta hκ C 38 (by decide) rfl q1675 dX2_body_25 ?_
      refine j_aload_n C dX2_body_28 rfl rfl ?_
      refine jm_geti hκ C 37 (by decide) rfl q1674 dX2_body_29 ?_
      refine j_iload_n C dX2_body_32 rfl rfl ?_
      obtain ⟨b4, h⟩ := chk_some h
      refine jm_iast hκ C 38 rfl b4 dX2_body_33 ?_
      refine jm_nmT h (fun T3 h => ?_)
      refine j_aload_n C dX2_body_34 rfl rfl ?_
      refine j_dup C dX2_body_35 rfl ?_
      refine jm_geti hκ C 37 (by decide) rfl q1674 dX2_body_36 ?_
      refine j_dup_x1 C dX2_body_39 rfl rfl ?_
      refine j_iconst C (v := 1) dX2_body_40 rfl ?_
      refine j_iadd C dX2_body_41 ?_
      refine jm_puti hκ C 37 (by decide) rfl rfl rfl q1674 dX2_body_42 ?_
      refine jm_nmT h (fun T5 h => ?_)
      obtain ⟨rfl, rfl⟩ := sp2 h
      exact j_iret C dX2_body_45 (Nat.zero_le _) (Nat.zero_le _) ⟨rfl, rfl⟩
    replace h := ip c h
    refine j_bipush C (v := (-3)) dX2_body_21 rfl ?_
    obtain ⟨rfl, rfl⟩ := sp2 h
    exact j_iret C dX2_body_23 (Nat.zero_le _) (Nat.zero_le _) ⟨rfl, rfl⟩
  replace h := ip c h
  refine j_iconst C (v := (-1)) dX2_body_10 rfl ?_
  obtain ⟨rfl, rfl⟩ := sp2 h
  exact j_iret C dX2_body_11 (Nat.zero_le _) (Nat.zero_le _) ⟨rfl, rfl⟩
/-! above -/
def m_above (p1 : Int32) : Option Int32 :=
  (if p1 = 3 then
  some 2
  else if p1 = 4 then
  some 1
  else if p1 = 5 then
  some 3
  else if p1 = 7 then
  some 4
  else 
  some 0)
theorem mt_m_above {κ : jK} (hκ : jStd κ) {w : jW} {p1 : Int32} {v : Int32} (h : m_above p1 = some v) : jM κ yX2_above (ws_ yX2_above cX2_above 1 (some .int)) 0 0 0 [.int p1] (w) (fun u w' => u = some (.int v) ∧ w' = w) := by
  rw [m_above] at h
  refine jM.of (by decide) rfl (Nat.le_of_ble_eq_true rfl) fun Γ C _ => ?_
  show J κ Γ (0, 0, 0, (fun u w' => u = some (.int v) ∧ w' = w)) 1 (w) 0 0 0 [some (.int p1)] []
  refine j_iload_n C dX2_above_0 rfl rfl ?_
  by_cases c1_0 : p1 = 3
  · replace h := ip c1_0 h
    refine j_tabEq C dX2_above_1 c1_0 (a := 3) rfl (by decide) (by decide) rfl (tgt := 36) (by decide) ?_
    refine j_iconst C (v := 2) dX2_above_36 rfl ?_
    obtain rfl := sp1 h
    exact j_iret C dX2_above_37 (Nat.zero_le _) (Nat.zero_le _) ⟨rfl, rfl⟩
  replace h := im c1_0 h
  by_cases c1_1 : p1 = 4
  · replace h := ip c1_1 h
    refine j_tabEq C dX2_above_1 c1_1 (a := 4) rfl (by decide) (by decide) rfl (tgt := 38) (by decide) ?_
    refine j_iconst C (v := 1) dX2_above_38 rfl ?_
    obtain rfl := sp1 h
    exact j_iret C dX2_above_39 (Nat.zero_le _) (Nat.zero_le _) ⟨rfl, rfl⟩
  replace h := im c1_1 h
  by_cases c1_2 : p1 = 5
  · replace h := ip c1_2 h
    refine j_tabEq C dX2_above_1 c1_2 (a := 5) rfl (by decide) (by decide) rfl (tgt := 40) (by decide) ?_
    refine j_iconst C (v := 3) dX2_above_40 rfl ?_
    obtain rfl := sp1 h
    exact j_iret C dX2_above_41 (Nat.zero_le _) (Nat.zero_le _) ⟨rfl, rfl⟩
  replace h := im c1_2 h
  by_cases c1_3 : p1 = 7
  · replace h := ip c1_3 h
    refine j_tabEq C dX2_above_1 c1_3 (a := 7) rfl (by decide) (by decide) rfl (tgt := 42) (by decide) ?_
    refine j_iconst C (v := 4) dX2_above_42 rfl ?_
    obtain rfl := sp1 h
    exact j_iret C dX2_above_43 (Nat.zero_le _) (Nat.zero_le _) ⟨rfl, rfl⟩
  replace h := im c1_3 h
  refine j_tabDef C [3, 4, 5, 7] dX2_above_1 ⟨tab_ne c1_0 rfl, tab_ne c1_1 rfl, tab_ne c1_2 rfl, tab_ne c1_3 rfl, trivial⟩ rfl rfl (tgt := 44) (by decide) ?_
  refine j_iconst C (v := 0) dX2_above_44 rfl ?_
  obtain rfl := sp1 h
  exact j_iret C dX2_above_45 (Nat.zero_le _) (Nat.zero_le _) ⟨rfl, rfl⟩
/-! ran -/
def m_ran (T : MS) (p1 : Int32) : Option MS :=
  (if 24 ≤ (T.1 39) then
  nm (sI T 39 ((T.1 39) + 1)) fun T1 =>
  some T1
  else
  chk 24 (T.1 39) (
  nm (sA T 40 (T.1 39).toNatClampNeg p1) fun T2 =>
  nm (sI T2 39 ((T2.1 39) + 1)) fun T4 =>
  some T4))
theorem mt_m_ran {κ : jK} (hκ : jStd κ) (G : Nat → Nat) {T : MS} {p1 : Int32} {T' : MS} (h : m_ran T p1 = some T') : jM κ yX2_ran (ws_ yX2_ran cX2_ran 2 none) 0 0 0 [.ref (G 0), .int p1] (wM κ G T) (fun u w' => u = none ∧ w' = wM κ G T') := by
  rw [m_ran] at h
  refine jM.of (by decide) rfl (Nat.le_of_ble_eq_true rfl) fun Γ C _ => ?_
  show J κ Γ (0, 0, 0, (fun u w' => u = none ∧ w' = wM κ G T')) 2 (wM κ G T) 0 0 0 [some (.ref (G 0)), some (.int p1)] []
  refine j_aload_n C dX2_ran_0 rfl rfl ?_
  refine jm_geti hκ C 39 (by decide) rfl q1676 dX2_ran_1 ?_
  refine j_bipush C (v := 24) dX2_ran_4 rfl ?_
  refine j_icmp_ge C dX2_ran_6 (tgt := 19) (by decide) (fun c => ?_) (fun c => ?_)
  · replace h := ip c h
    refine j_aload_n C dX2_ran_19 rfl rfl ?_
    refine j_dup C dX2_ran_20 rfl ?_
    refine jm_geti hκ C 39 (by decide) rfl q1676 dX2_ran_21 ?_
    refine j_iconst C (v := 1) dX2_ran_24 rfl ?_
    refine j_iadd C dX2_ran_25 ?_
    refine jm_puti hκ C 39 (by decide) rfl rfl rfl q1676 dX2_ran_26 ?_
    refine jm_nmT h (fun T1 h => ?_)
    obtain rfl := sp1 h
    exact j_vret C dX2_ran_29 (Nat.zero_le _) (Nat.zero_le _) ⟨rfl, rfl⟩
  replace h := im c h
  refine j_aload_n C dX2_ran_9 rfl rfl ?_
  refine jm_geta hκ C 40 (by decide) rfl q1677 dX2_ran_10 ?_
  refine j_aload_n C dX2_ran_13 rfl rfl ?_
  refine jm_geti hκ C 39 (by decide) rfl q1676 dX2_ran_14 ?_
  refine j_iload_n C dX2_ran_17 rfl rfl ?_
  obtain ⟨b3, h⟩ := chk_some h
  refine jm_iast hκ C 40 rfl b3 dX2_ran_18 ?_
  refine jm_nmT h (fun T2 h => ?_)
  refine j_aload_n C dX2_ran_19 rfl rfl ?_
  refine j_dup C dX2_ran_20 rfl ?_
  refine jm_geti hκ C 39 (by decide) rfl q1676 dX2_ran_21 ?_
  refine j_iconst C (v := 1) dX2_ran_24 rfl ?_
  refine j_iadd C dX2_ran_25 ?_
  refine jm_puti hκ C 39 (by decide) rfl rfl rfl q1676 dX2_ran_26 ?_
  refine jm_nmT h (fun T4 h => ?_)
  obtain rfl := sp1 h
  exact j_vret C dX2_ran_29 (Nat.zero_le _) (Nat.zero_le _) ⟨rfl, rfl⟩
/-! turnsBy -/
def m_turnsBy  : Nat → MS → Int32 → Int32 → Int32 → Option (Int32 × MS)
  | 0, _, _, _, _ => none
  | d + 1, T, p1, p2, p3 =>
    (if p2 = 0 then
    (m_ran T 1).bind fun T3 =>
    some ((p3 + p1), T3)
    else if p2 = 1 then
    (m_ran T 20).bind fun T6 =>
    b2 (m_turnsBy d T6 p1 0 p3) fun v8 T9 =>
    some ((v8 + 3), T9)
    else if p2 = 6 then
    (m_ran T 70).bind fun T12 =>
    b2 (m_turnsBy d T12 p1 0 p3) fun v14 T15 =>
    some ((v14 * 2), T15)
    else 
    (m_above p2).bind fun v17 =>
    b2 (m_turnsBy d T p1 v17 p3) fun v19 T20 =>
    some (v19, T20))
theorem mt_m_turnsBy {κ : jK} (hκ : jStd κ) (G : Nat → Nat) : ∀ (d : Nat) {T : MS} {p1 : Int32} {p2 : Int32} {p3 : Int32} {v : Int32} {T' : MS}, m_turnsBy d T p1 p2 p3 = some (v, T') → jM κ yX2_turnsBy (ws_ yX2_turnsBy cX2_turnsBy 4 (some .int)) (1 * d + 1) 0 0 [.ref (G 0), .int p1, .int p2, .int p3] (wM κ G T) (fun u w' => u = some (.int v) ∧ w' = wM κ G T') := by
  intro d
  induction d with
  | zero => intro _ _ _ _ _ _ h; cases h
  | succ d ih =>
    intro T p1 p2 p3 v T' h
    rw [m_turnsBy] at h
    refine jM.of (by decide) rfl (Nat.le_of_ble_eq_true rfl) fun Γ C _ => ?_
    show J κ Γ ((1 * (d + 1) + 1), 0, 0, (fun u w' => u = some (.int v) ∧ w' = wM κ G T')) 4 (wM κ G T) 0 0 0 [some (.ref (G 0)), some (.int p1), some (.int p2), some (.int p3)] []
    refine j_iload_n C dX2_turnsBy_0 rfl rfl ?_
    by_cases c1_0 : p2 = 0
    · replace h := ip c1_0 h
      refine j_lookEq C dX2_turnsBy_1 rfl c1_0 (a := 0) rfl rfl (tgt := 36) (by decide) ?_
      refine j_aload_n C dX2_turnsBy_36 rfl rfl ?_
      refine j_iconst C (v := 1) dX2_turnsBy_37 rfl ?_
      obtain ⟨T3, e1, h⟩ := ob h
      refine jm_Vv hκ C (mt_m_ran hκ G e1) hG_m_ran hy_m_ran rfl rfl dX2_turnsBy_38 (jfit.of (by omega) (by decide) (Nat.zero_le _) (Nat.zero_le _) (Nat.le_of_ble_eq_true rfl)) rfl ?_
      refine j_iload_n C dX2_turnsBy_41 rfl rfl ?_
      refine j_iload_n C dX2_turnsBy_42 rfl rfl ?_
      refine j_iadd C dX2_turnsBy_43 ?_
      obtain ⟨rfl, rfl⟩ := sp2 h
      exact j_iret C dX2_turnsBy_44 (Nat.zero_le _) (Nat.zero_le _) ⟨rfl, rfl⟩
    replace h := im c1_0 h
    by_cases c1_1 : p2 = 1
    · replace h := ip c1_1 h
      refine j_lookEq C dX2_turnsBy_1 rfl c1_1 (a := 1) rfl rfl (tgt := 45) (by decide) ?_
      refine j_aload_n C dX2_turnsBy_45 rfl rfl ?_
      refine j_bipush C (v := 20) dX2_turnsBy_46 rfl ?_
      obtain ⟨T6, e4, h⟩ := ob h
      refine jm_Vv hκ C (mt_m_ran hκ G e4) hG_m_ran hy_m_ran rfl rfl dX2_turnsBy_48 (jfit.of (by omega) (by decide) (Nat.zero_le _) (Nat.zero_le _) (Nat.le_of_ble_eq_true rfl)) rfl ?_
      refine j_aload_n C dX2_turnsBy_51 rfl rfl ?_
      refine j_iload_n C dX2_turnsBy_52 rfl rfl ?_
      refine j_iconst C (v := 0) dX2_turnsBy_53 rfl ?_
      refine j_iload_n C dX2_turnsBy_54 rfl rfl ?_
      obtain ⟨v8, T9, e7, h⟩ := ob2 h
      refine jm_Vi hκ C (ih e7) hG_m_turnsBy hy_m_turnsBy rfl rfl dX2_turnsBy_55 (jfit.of (by omega) (by decide) (Nat.zero_le _) (Nat.zero_le _) (Nat.le_of_ble_eq_true rfl)) rfl ?_
      refine j_iconst C (v := 3) dX2_turnsBy_58 rfl ?_
      refine j_iadd C dX2_turnsBy_59 ?_
      obtain ⟨rfl, rfl⟩ := sp2 h
      exact j_iret C dX2_turnsBy_60 (Nat.zero_le _) (Nat.zero_le _) ⟨rfl, rfl⟩
    replace h := im c1_1 h
    by_cases c1_2 : p2 = 6
    · replace h := ip c1_2 h
      refine j_lookEq C dX2_turnsBy_1 rfl c1_2 (a := 6) rfl rfl (tgt := 61) (by decide) ?_
      refine j_aload_n C dX2_turnsBy_61 rfl rfl ?_
      refine j_bipush C (v := 70) dX2_turnsBy_62 rfl ?_
      obtain ⟨T12, e10, h⟩ := ob h
      refine jm_Vv hκ C (mt_m_ran hκ G e10) hG_m_ran hy_m_ran rfl rfl dX2_turnsBy_64 (jfit.of (by omega) (by decide) (Nat.zero_le _) (Nat.zero_le _) (Nat.le_of_ble_eq_true rfl)) rfl ?_
      refine j_aload_n C dX2_turnsBy_67 rfl rfl ?_
      refine j_iload_n C dX2_turnsBy_68 rfl rfl ?_
      refine j_iconst C (v := 0) dX2_turnsBy_69 rfl ?_
      refine j_iload_n C dX2_turnsBy_70 rfl rfl ?_
      obtain ⟨v14, T15, e13, h⟩ := ob2 h
      refine jm_Vi hκ C (ih e13) hG_m_turnsBy hy_m_turnsBy rfl rfl dX2_turnsBy_71 (jfit.of (by omega) (by decide) (Nat.zero_le _) (Nat.zero_le _) (Nat.le_of_ble_eq_true rfl)) rfl ?_
      refine j_iconst C (v := 2) dX2_turnsBy_74 rfl ?_
      refine j_imul C dX2_turnsBy_75 ?_
      obtain ⟨rfl, rfl⟩ := sp2 h
      exact j_iret C dX2_turnsBy_76 (Nat.zero_le _) (Nat.zero_le _) ⟨rfl, rfl⟩
    replace h := im c1_2 h
    refine j_lookDef C dX2_turnsBy_1 rfl ⟨tab_ne c1_0 rfl, tab_ne c1_1 rfl, tab_ne c1_2 rfl, trivial⟩ (tgt := 77) (by decide) ?_
    refine j_aload_n C dX2_turnsBy_77 rfl rfl ?_
    refine j_iload_n C dX2_turnsBy_78 rfl rfl ?_
    refine j_iload_n C dX2_turnsBy_79 rfl rfl ?_
    obtain ⟨v17, e16, h⟩ := ob h
    refine j_Si hκ.1 C (mt_m_above hκ e16) hG_m_above hy_m_above rfl dX2_turnsBy_80 (jfit.of (by omega) (by decide) (Nat.zero_le _) (Nat.zero_le _) (Nat.le_of_ble_eq_true rfl)) rfl ?_
    refine j_iload_n C dX2_turnsBy_83 rfl rfl ?_
    obtain ⟨v19, T20, e18, h⟩ := ob2 h
    refine jm_Vi hκ C (ih e18) hG_m_turnsBy hy_m_turnsBy rfl rfl dX2_turnsBy_84 (jfit.of (by omega) (by decide) (Nat.zero_le _) (Nat.zero_le _) (Nat.le_of_ble_eq_true rfl)) rfl ?_
    obtain ⟨rfl, rfl⟩ := sp2 h
    exact j_iret C dX2_turnsBy_87 (Nat.zero_le _) (Nat.zero_le _) ⟨rfl, rfl⟩
/-! fearsBy -/
def m_fearsBy  : Nat → MS → Int32 → Int32 → Int32 → Option (Int32 × MS)
  | 0, _, _, _, _ => none
  | d + 1, T, p1, p2, p3 =>
    (if p2 = 0 then
    (m_ran T 11).bind fun T3 =>
    some ((p3 ^^^ p1), T3)
    else if p2 = 3 then
    (m_ran T 40).bind fun T6 =>
    b2 (m_fearsBy d T6 p1 2 p3) fun v8 T9 =>
    some ((v8 * 3), T9)
    else if p2 = 4 then
    (m_ran T 50).bind fun T12 =>
    b2 (m_fearsBy d T12 p1 1 p3) fun v14 T15 =>
    chk 50 p1 (
    b2 (m_turnsBy 10 T15 p1 (T15.2.1 38 p1.toNatClampNeg) 2) fun v18 T19 =>
    some ((v14 - v18), T19))
    else 
    (m_above p2).bind fun v21 =>
    b2 (m_fearsBy d T p1 v21 p3) fun v23 T24 =>
    some (v23, T24))
theorem mt_m_fearsBy {κ : jK} (hκ : jStd κ) (G : Nat → Nat) : ∀ (d : Nat) {T : MS} {p1 : Int32} {p2 : Int32} {p3 : Int32} {v : Int32} {T' : MS}, m_fearsBy d T p1 p2 p3 = some (v, T') → jM κ yX2_fearsBy (ws_ yX2_fearsBy cX2_fearsBy 5 (some .int)) (1 * d + 11) 0 0 [.ref (G 0), .int p1, .int p2, .int p3] (wM κ G T) (fun u w' => u = some (.int v) ∧ w' = wM κ G T') := by
  intro d
  induction d with
  | zero => intro _ _ _ _ _ _ h; cases h
  | succ d ih =>
    intro T p1 p2 p3 v T' h
    rw [m_fearsBy] at h
    refine jM.of (by decide) rfl (Nat.le_of_ble_eq_true rfl) fun Γ C _ => ?_
    show J κ Γ ((1 * (d + 1) + 11), 0, 0, (fun u w' => u = some (.int v) ∧ w' = wM κ G T')) 5 (wM κ G T) 0 0 0 [some (.ref (G 0)), some (.int p1), some (.int p2), some (.int p3), none] []
    refine j_iload_n C dX2_fearsBy_0 rfl rfl ?_
    by_cases c1_0 : p2 = 0
    · replace h := ip c1_0 h
      refine j_tabEq C dX2_fearsBy_1 c1_0 (a := 0) rfl (by decide) (by decide) rfl (tgt := 36) (by decide) ?_
      refine j_aload_n C dX2_fearsBy_36 rfl rfl ?_
      refine j_bipush C (v := 11) dX2_fearsBy_37 rfl ?_
      obtain ⟨T3, e1, h⟩ := ob h
      refine jm_Vv hκ C (mt_m_ran hκ G e1) hG_m_ran hy_m_ran rfl rfl dX2_fearsBy_39 (jfit.of (by omega) (by decide) (Nat.zero_le _) (Nat.zero_le _) (Nat.le_of_ble_eq_true rfl)) rfl ?_
      refine j_iload_n C dX2_fearsBy_42 rfl rfl ?_
      refine j_iload_n C dX2_fearsBy_43 rfl rfl ?_
      refine j_ixor C dX2_fearsBy_44 ?_
      obtain ⟨rfl, rfl⟩ := sp2 h
      exact j_iret C dX2_fearsBy_45 (Nat.zero_le _) (Nat.zero_le _) ⟨rfl, rfl⟩
    replace h := im c1_0 h
    by_cases c1_1 : p2 = 3
    · replace h := ip c1_1 h
      refine j_tabEq C dX2_fearsBy_1 c1_1 (a := 3) rfl (by decide) (by decide) rfl (tgt := 46) (by decide) ?_
      refine j_aload_n C dX2_fearsBy_46 rfl rfl ?_
      refine j_bipush C (v := 40) dX2_fearsBy_47 rfl ?_
      obtain ⟨T6, e4, h⟩ := ob h
      refine jm_Vv hκ C (mt_m_ran hκ G e4) hG_m_ran hy_m_ran rfl rfl dX2_fearsBy_49 (jfit.of (by omega) (by decide) (Nat.zero_le _) (Nat.zero_le _) (Nat.le_of_ble_eq_true rfl)) rfl ?_
      refine j_aload_n C dX2_fearsBy_52 rfl rfl ?_
      refine j_iload_n C dX2_fearsBy_53 rfl rfl ?_
      refine j_iconst C (v := 2) dX2_fearsBy_54 rfl ?_
      refine j_iload_n C dX2_fearsBy_55 rfl rfl ?_
      obtain ⟨v8, T9, e7, h⟩ := ob2 h
      refine jm_Vi hκ C (ih e7) hG_m_fearsBy hy_m_fearsBy rfl rfl dX2_fearsBy_56 (jfit.of (by omega) (by decide) (Nat.zero_le _) (Nat.zero_le _) (Nat.le_of_ble_eq_true rfl)) rfl ?_
      refine j_iconst C (v := 3) dX2_fearsBy_59 rfl ?_
      refine j_imul C dX2_fearsBy_60 ?_
      obtain ⟨rfl, rfl⟩ := sp2 h
      exact j_iret C dX2_fearsBy_61 (Nat.zero_le _) (Nat.zero_le _) ⟨rfl, rfl⟩
    replace h := im c1_1 h
    by_cases c1_2 : p2 = 4
    · replace h := ip c1_2 h
      refine j_tabEq C dX2_fearsBy_1 c1_2 (a := 4) rfl (by decide) (by decide) rfl (tgt := 62) (by decide) ?_
      refine j_aload_n C dX2_fearsBy_62 rfl rfl ?_
      refine j_bipush C (v := 50) dX2_fearsBy_63 rfl ?_
      obtain ⟨T12, e10, h⟩ := ob h
      refine jm_Vv hκ C (mt_m_ran hκ G e10) hG_m_ran hy_m_ran rfl rfl dX2_fearsBy_65 (jfit.of (by omega) (by decide) (Nat.zero_le _) (Nat.zero_le _) (Nat.le_of_ble_eq_true rfl)) rfl ?_
      refine j_aload_n C dX2_fearsBy_68 rfl rfl ?_
      refine j_iload_n C dX2_fearsBy_69 rfl rfl ?_
      refine j_iconst C (v := 1) dX2_fearsBy_70 rfl ?_
      refine j_iload_n C dX2_fearsBy_71 rfl rfl ?_
      obtain ⟨v14, T15, e13, h⟩ := ob2 h
      refine jm_Vi hκ C (ih e13) hG_m_fearsBy hy_m_fearsBy rfl rfl dX2_fearsBy_72 (jfit.of (by omega) (by decide) (Nat.zero_le _) (Nat.zero_le _) (Nat.le_of_ble_eq_true rfl)) rfl ?_
      refine j_istore C dX2_fearsBy_75 (by decide) rfl ?_
      refine j_iload C dX2_fearsBy_77 rfl ?_
      refine j_aload_n C dX2_fearsBy_79 rfl rfl ?_
      refine j_iload_n C dX2_fearsBy_80 rfl rfl ?_
      refine j_aload_n C dX2_fearsBy_81 rfl rfl ?_
      refine jm_geta hκ C 38 (by decide) rfl q1675 dX2_fearsBy_82 ?_
      refine j_iload_n C dX2_fearsBy_85 rfl rfl ?_
      obtain ⟨b16, h⟩ := chk_some h
      refine jm_iald hκ C 38 rfl b16 dX2_fearsBy_86 ?_
      refine j_iconst C (v := 2) dX2_fearsBy_87 rfl ?_
      obtain ⟨v18, T19, e17, h⟩ := ob2 h
      refine jm_Vi hκ C (mt_m_turnsBy hκ G 10 e17) hG_m_turnsBy hy_m_turnsBy rfl rfl dX2_fearsBy_88 (jfit.of (by omega) (by decide) (Nat.zero_le _) (Nat.zero_le _) (Nat.le_of_ble_eq_true rfl)) rfl ?_
      refine j_isub C dX2_fearsBy_91 ?_
      obtain ⟨rfl, rfl⟩ := sp2 h
      exact j_iret C dX2_fearsBy_92 (Nat.zero_le _) (Nat.zero_le _) ⟨rfl, rfl⟩
    replace h := im c1_2 h
    refine j_tabDef C [0, 3, 4] dX2_fearsBy_1 ⟨tab_ne c1_0 rfl, tab_ne c1_1 rfl, tab_ne c1_2 rfl, trivial⟩ rfl rfl (tgt := 93) (by decide) ?_
    refine j_aload_n C dX2_fearsBy_93 rfl rfl ?_
    refine j_iload_n C dX2_fearsBy_94 rfl rfl ?_
    refine j_iload_n C dX2_fearsBy_95 rfl rfl ?_
    obtain ⟨v21, e20, h⟩ := ob h
    refine j_Si hκ.1 C (mt_m_above hκ e20) hG_m_above hy_m_above rfl dX2_fearsBy_96 (jfit.of (by omega) (by decide) (Nat.zero_le _) (Nat.zero_le _) (Nat.le_of_ble_eq_true rfl)) rfl ?_
    refine j_iload_n C dX2_fearsBy_99 rfl rfl ?_
    obtain ⟨v23, T24, e22, h⟩ := ob2 h
    refine jm_Vi hκ C (ih e22) hG_m_fearsBy hy_m_fearsBy rfl rfl dX2_fearsBy_100 (jfit.of (by omega) (by decide) (Nat.zero_le _) (Nat.zero_le _) (Nat.le_of_ble_eq_true rfl)) rfl ?_
    obtain ⟨rfl, rfl⟩ := sp2 h
    exact j_iret C dX2_fearsBy_103 (Nat.zero_le _) (Nat.zero_le _) ⟨rfl, rfl⟩
/-! seesBy -/
def m_seesBy  : Nat → MS → Int32 → Int32 → Int32 → Option (Int32 × MS)
  | 0, _, _, _, _ => none
  | d + 1, T, p1, p2, p3 =>
    (if p2 = 0 then
    (m_ran T 10).bind fun T3 =>
    chk 50 p1 (
    b2 (m_turnsBy 10 T3 p1 (T3.2.1 38 p1.toNatClampNeg) p3) fun v6 T7 =>
    some ((v6 * 2), T7))
    else if p2 = 2 then
    (m_ran T 30).bind fun T10 =>
    b2 (m_seesBy d T10 p1 0 p3) fun v12 T13 =>
    some ((-v12), T13)
    else if p2 = 3 then
    (m_ran T 41).bind fun T16 =>
    b2 (m_seesBy d T16 p1 2 (p3 + 1)) fun v18 T19 =>
    some (v18, T19)
    else if p2 = 7 then
    (m_ran T 80).bind fun T22 =>
    b2 (m_seesBy d T22 p1 4 p3) fun v24 T25 =>
    chk 50 p1 (
    b2 (m_fearsBy 10 T25 p1 (T25.2.1 38 p1.toNatClampNeg) 2) fun v28 T29 =>
    some ((v24 + v28), T29))
    else 
    (m_above p2).bind fun v31 =>
    b2 (m_seesBy d T p1 v31 p3) fun v33 T34 =>
    some (v33, T34))
theorem mt_m_seesBy {κ : jK} (hκ : jStd κ) (G : Nat → Nat) : ∀ (d : Nat) {T : MS} {p1 : Int32} {p2 : Int32} {p3 : Int32} {v : Int32} {T' : MS}, m_seesBy d T p1 p2 p3 = some (v, T') → jM κ yX2_seesBy (ws_ yX2_seesBy cX2_seesBy 5 (some .int)) (1 * d + 21) 0 0 [.ref (G 0), .int p1, .int p2, .int p3] (wM κ G T) (fun u w' => u = some (.int v) ∧ w' = wM κ G T') := by
  intro d
  induction d with
  | zero => intro _ _ _ _ _ _ h; cases h
  | succ d ih =>
    intro T p1 p2 p3 v T' h
    rw [m_seesBy] at h
    refine jM.of (by decide) rfl (Nat.le_of_ble_eq_true rfl) fun Γ C _ => ?_
    show J κ Γ ((1 * (d + 1) + 21), 0, 0, (fun u w' => u = some (.int v) ∧ w' = wM κ G T')) 5 (wM κ G T) 0 0 0 [some (.ref (G 0)), some (.int p1), some (.int p2), some (.int p3), none] []
    refine j_iload_n C dX2_seesBy_0 rfl rfl ?_
    by_cases c1_0 : p2 = 0
    · replace h := ip c1_0 h
      refine j_tabEq C dX2_seesBy_1 c1_0 (a := 0) rfl (by decide) (by decide) rfl (tgt := 48) (by decide) ?_
      refine j_aload_n C dX2_seesBy_48 rfl rfl ?_
      refine j_bipush C (v := 10) dX2_seesBy_49 rfl ?_
      obtain ⟨T3, e1, h⟩ := ob h
      refine jm_Vv hκ C (mt_m_ran hκ G e1) hG_m_ran hy_m_ran rfl rfl dX2_seesBy_51 (jfit.of (by omega) (by decide) (Nat.zero_le _) (Nat.zero_le _) (Nat.le_of_ble_eq_true rfl)) rfl ?_
      refine j_aload_n C dX2_seesBy_54 rfl rfl ?_
      refine j_iload_n C dX2_seesBy_55 rfl rfl ?_
      refine j_aload_n C dX2_seesBy_56 rfl rfl ?_
      refine jm_geta hκ C 38 (by decide) rfl q1675 dX2_seesBy_57 ?_
      refine j_iload_n C dX2_seesBy_60 rfl rfl ?_
      obtain ⟨b4, h⟩ := chk_some h
      refine jm_iald hκ C 38 rfl b4 dX2_seesBy_61 ?_
      refine j_iload_n C dX2_seesBy_62 rfl rfl ?_
      obtain ⟨v6, T7, e5, h⟩ := ob2 h
      refine jm_Vi hκ C (mt_m_turnsBy hκ G 10 e5) hG_m_turnsBy hy_m_turnsBy rfl rfl dX2_seesBy_63 (jfit.of (by omega) (by decide) (Nat.zero_le _) (Nat.zero_le _) (Nat.le_of_ble_eq_true rfl)) rfl ?_
      refine j_iconst C (v := 2) dX2_seesBy_66 rfl ?_
      refine j_imul C dX2_seesBy_67 ?_
      obtain ⟨rfl, rfl⟩ := sp2 h
      exact j_iret C dX2_seesBy_68 (Nat.zero_le _) (Nat.zero_le _) ⟨rfl, rfl⟩
    replace h := im c1_0 h
    by_cases c1_1 : p2 = 2
    · replace h := ip c1_1 h
      refine j_tabEq C dX2_seesBy_1 c1_1 (a := 2) rfl (by decide) (by decide) rfl (tgt := 69) (by decide) ?_
      refine j_aload_n C dX2_seesBy_69 rfl rfl ?_
      refine j_bipush C (v := 30) dX2_seesBy_70 rfl ?_
      obtain ⟨T10, e8, h⟩ := ob h
      refine jm_Vv hκ C (mt_m_ran hκ G e8) hG_m_ran hy_m_ran rfl rfl dX2_seesBy_72 (jfit.of (by omega) (by decide) (Nat.zero_le _) (Nat.zero_le _) (Nat.le_of_ble_eq_true rfl)) rfl ?_
      refine j_aload_n C dX2_seesBy_75 rfl rfl ?_
      refine j_iload_n C dX2_seesBy_76 rfl rfl ?_
      refine j_iconst C (v := 0) dX2_seesBy_77 rfl ?_
      refine j_iload_n C dX2_seesBy_78 rfl rfl ?_
      obtain ⟨v12, T13, e11, h⟩ := ob2 h
      refine jm_Vi hκ C (ih e11) hG_m_seesBy hy_m_seesBy rfl rfl dX2_seesBy_79 (jfit.of (by omega) (by decide) (Nat.zero_le _) (Nat.zero_le _) (Nat.le_of_ble_eq_true rfl)) rfl ?_
      refine j_ineg C dX2_seesBy_82 ?_
      obtain ⟨rfl, rfl⟩ := sp2 h
      exact j_iret C dX2_seesBy_83 (Nat.zero_le _) (Nat.zero_le _) ⟨rfl, rfl⟩
    replace h := im c1_1 h
    by_cases c1_2 : p2 = 3
    · replace h := ip c1_2 h
      refine j_tabEq C dX2_seesBy_1 c1_2 (a := 3) rfl (by decide) (by decide) rfl (tgt := 84) (by decide) ?_
      refine j_aload_n C dX2_seesBy_84 rfl rfl ?_
      refine j_bipush C (v := 41) dX2_seesBy_85 rfl ?_
      obtain ⟨T16, e14, h⟩ := ob h
      refine jm_Vv hκ C (mt_m_ran hκ G e14) hG_m_ran hy_m_ran rfl rfl dX2_seesBy_87 (jfit.of (by omega) (by decide) (Nat.zero_le _) (Nat.zero_le _) (Nat.le_of_ble_eq_true rfl)) rfl ?_
      refine j_aload_n C dX2_seesBy_90 rfl rfl ?_
      refine j_iload_n C dX2_seesBy_91 rfl rfl ?_
      refine j_iconst C (v := 2) dX2_seesBy_92 rfl ?_
      refine j_iload_n C dX2_seesBy_93 rfl rfl ?_
      refine j_iconst C (v := 1) dX2_seesBy_94 rfl ?_
      refine j_iadd C dX2_seesBy_95 ?_
      obtain ⟨v18, T19, e17, h⟩ := ob2 h
      refine jm_Vi hκ C (ih e17) hG_m_seesBy hy_m_seesBy rfl rfl dX2_seesBy_96 (jfit.of (by omega) (by decide) (Nat.zero_le _) (Nat.zero_le _) (Nat.le_of_ble_eq_true rfl)) rfl ?_
      obtain ⟨rfl, rfl⟩ := sp2 h
      exact j_iret C dX2_seesBy_99 (Nat.zero_le _) (Nat.zero_le _) ⟨rfl, rfl⟩
    replace h := im c1_2 h
    by_cases c1_3 : p2 = 7
    · replace h := ip c1_3 h
      refine j_tabEq C dX2_seesBy_1 c1_3 (a := 7) rfl (by decide) (by decide) rfl (tgt := 100) (by decide) ?_
      refine j_aload_n C dX2_seesBy_100 rfl rfl ?_
      refine j_bipush C (v := 80) dX2_seesBy_101 rfl ?_
      obtain ⟨T22, e20, h⟩ := ob h
      refine jm_Vv hκ C (mt_m_ran hκ G e20) hG_m_ran hy_m_ran rfl rfl dX2_seesBy_103 (jfit.of (by omega) (by decide) (Nat.zero_le _) (Nat.zero_le _) (Nat.le_of_ble_eq_true rfl)) rfl ?_
      refine j_aload_n C dX2_seesBy_106 rfl rfl ?_
      refine j_iload_n C dX2_seesBy_107 rfl rfl ?_
      refine j_iconst C (v := 4) dX2_seesBy_108 rfl ?_
      refine j_iload_n C dX2_seesBy_109 rfl rfl ?_
      obtain ⟨v24, T25, e23, h⟩ := ob2 h
      refine jm_Vi hκ C (ih e23) hG_m_seesBy hy_m_seesBy rfl rfl dX2_seesBy_110 (jfit.of (by omega) (by decide) (Nat.zero_le _) (Nat.zero_le _) (Nat.le_of_ble_eq_true rfl)) rfl ?_
      refine j_istore C dX2_seesBy_113 (by decide) rfl ?_
      refine j_iload C dX2_seesBy_115 rfl ?_
      refine j_aload_n C dX2_seesBy_117 rfl rfl ?_
      refine j_iload_n C dX2_seesBy_118 rfl rfl ?_
      refine j_aload_n C dX2_seesBy_119 rfl rfl ?_
      refine jm_geta hκ C 38 (by decide) rfl q1675 dX2_seesBy_120 ?_
      refine j_iload_n C dX2_seesBy_123 rfl rfl ?_
      obtain ⟨b26, h⟩ := chk_some h
      refine jm_iald hκ C 38 rfl b26 dX2_seesBy_124 ?_
      refine j_iconst C (v := 2) dX2_seesBy_125 rfl ?_
      obtain ⟨v28, T29, e27, h⟩ := ob2 h
      refine jm_Vi hκ C (mt_m_fearsBy hκ G 10 e27) hG_m_fearsBy hy_m_fearsBy rfl rfl dX2_seesBy_126 (jfit.of (by omega) (by decide) (Nat.zero_le _) (Nat.zero_le _) (Nat.le_of_ble_eq_true rfl)) rfl ?_
      refine j_iadd C dX2_seesBy_129 ?_
      obtain ⟨rfl, rfl⟩ := sp2 h
      exact j_iret C dX2_seesBy_130 (Nat.zero_le _) (Nat.zero_le _) ⟨rfl, rfl⟩
    replace h := im c1_3 h
    refine j_tabDef C [0, 2, 3, 7] dX2_seesBy_1 ⟨tab_ne c1_0 rfl, tab_ne c1_1 rfl, tab_ne c1_2 rfl, tab_ne c1_3 rfl, trivial⟩ rfl rfl (tgt := 131) (by decide) ?_
    refine j_aload_n C dX2_seesBy_131 rfl rfl ?_
    refine j_iload_n C dX2_seesBy_132 rfl rfl ?_
    refine j_iload_n C dX2_seesBy_133 rfl rfl ?_
    obtain ⟨v31, e30, h⟩ := ob h
    refine j_Si hκ.1 C (mt_m_above hκ e30) hG_m_above hy_m_above rfl dX2_seesBy_134 (jfit.of (by omega) (by decide) (Nat.zero_le _) (Nat.zero_le _) (Nat.le_of_ble_eq_true rfl)) rfl ?_
    refine j_iload_n C dX2_seesBy_137 rfl rfl ?_
    obtain ⟨v33, T34, e32, h⟩ := ob2 h
    refine jm_Vi hκ C (ih e32) hG_m_seesBy hy_m_seesBy rfl rfl dX2_seesBy_138 (jfit.of (by omega) (by decide) (Nat.zero_le _) (Nat.zero_le _) (Nat.le_of_ble_eq_true rfl)) rfl ?_
    obtain ⟨rfl, rfl⟩ := sp2 h
    exact j_iret C dX2_seesBy_141 (Nat.zero_le _) (Nat.zero_le _) ⟨rfl, rfl⟩
/-! tells -/
def m_tells  : Nat → MS → Int32 → Int32 → Int32 → Option (Int32 × MS)
  | 0, _, _, _, _ => none
  | d + 1, T, p1, p2, p3 =>
    (if p2 = 0 then
    (m_ran T 2).bind fun T3 =>
    chk 50 p1 (
    b2 (m_seesBy 10 T3 p1 (T3.2.1 38 p1.toNatClampNeg) p3) fun v6 T7 =>
    chk 50 p1 (
    b2 (m_fearsBy 10 T7 p1 (T7.2.1 38 p1.toNatClampNeg) 1) fun v10 T11 =>
    some ((v6 - v10), T11)))
    else if p2 = 5 then
    (m_ran T 60).bind fun T14 =>
    b2 (m_tells d T14 p1 3 p3) fun v16 T17 =>
    some ((v16 ^^^ 5), T17)
    else if p2 = 7 then
    (m_ran T 81).bind fun T20 =>
    b2 (m_tells d T20 p1 4 p3) fun v22 T23 =>
    some ((v22 - 1), T23)
    else 
    (m_above p2).bind fun v25 =>
    b2 (m_tells d T p1 v25 p3) fun v27 T28 =>
    some (v27, T28))
theorem mt_m_tells {κ : jK} (hκ : jStd κ) (G : Nat → Nat) : ∀ (d : Nat) {T : MS} {p1 : Int32} {p2 : Int32} {p3 : Int32} {v : Int32} {T' : MS}, m_tells d T p1 p2 p3 = some (v, T') → jM κ yX2_tells (ws_ yX2_tells cX2_tells 5 (some .int)) (1 * d + 31) 0 0 [.ref (G 0), .int p1, .int p2, .int p3] (wM κ G T) (fun u w' => u = some (.int v) ∧ w' = wM κ G T') := by
  intro d
  induction d with
  | zero => intro _ _ _ _ _ _ h; cases h
  | succ d ih =>
    intro T p1 p2 p3 v T' h
    rw [m_tells] at h
    refine jM.of (by decide) rfl (Nat.le_of_ble_eq_true rfl) fun Γ C _ => ?_
    show J κ Γ ((1 * (d + 1) + 31), 0, 0, (fun u w' => u = some (.int v) ∧ w' = wM κ G T')) 5 (wM κ G T) 0 0 0 [some (.ref (G 0)), some (.int p1), some (.int p2), some (.int p3), none] []
    refine j_iload_n C dX2_tells_0 rfl rfl ?_
    by_cases c1_0 : p2 = 0
    · replace h := ip c1_0 h
      refine j_lookEq C dX2_tells_1 rfl c1_0 (a := 0) rfl rfl (tgt := 36) (by decide) ?_
      refine j_aload_n C dX2_tells_36 rfl rfl ?_
      refine j_iconst C (v := 2) dX2_tells_37 rfl ?_
      obtain ⟨T3, e1, h⟩ := ob h
      refine jm_Vv hκ C (mt_m_ran hκ G e1) hG_m_ran hy_m_ran rfl rfl dX2_tells_38 (jfit.of (by omega) (by decide) (Nat.zero_le _) (Nat.zero_le _) (Nat.le_of_ble_eq_true rfl)) rfl ?_
      refine j_aload_n C dX2_tells_41 rfl rfl ?_
      refine j_iload_n C dX2_tells_42 rfl rfl ?_
      refine j_aload_n C dX2_tells_43 rfl rfl ?_
      refine jm_geta hκ C 38 (by decide) rfl q1675 dX2_tells_44 ?_
      refine j_iload_n C dX2_tells_47 rfl rfl ?_
      obtain ⟨b4, h⟩ := chk_some h
      refine jm_iald hκ C 38 rfl b4 dX2_tells_48 ?_
      refine j_iload_n C dX2_tells_49 rfl rfl ?_
      obtain ⟨v6, T7, e5, h⟩ := ob2 h
      refine jm_Vi hκ C (mt_m_seesBy hκ G 10 e5) hG_m_seesBy hy_m_seesBy rfl rfl dX2_tells_50 (jfit.of (by omega) (by decide) (Nat.zero_le _) (Nat.zero_le _) (Nat.le_of_ble_eq_true rfl)) rfl ?_
      refine j_istore C dX2_tells_53 (by decide) rfl ?_
      refine j_iload C dX2_tells_55 rfl ?_
      refine j_aload_n C dX2_tells_57 rfl rfl ?_
      refine j_iload_n C dX2_tells_58 rfl rfl ?_
      refine j_aload_n C dX2_tells_59 rfl rfl ?_
      refine jm_geta hκ C 38 (by decide) rfl q1675 dX2_tells_60 ?_
      refine j_iload_n C dX2_tells_63 rfl rfl ?_
      obtain ⟨b8, h⟩ := chk_some h
      refine jm_iald hκ C 38 rfl b8 dX2_tells_64 ?_
      refine j_iconst C (v := 1) dX2_tells_65 rfl ?_
      obtain ⟨v10, T11, e9, h⟩ := ob2 h
      refine jm_Vi hκ C (mt_m_fearsBy hκ G 10 e9) hG_m_fearsBy hy_m_fearsBy rfl rfl dX2_tells_66 (jfit.of (by omega) (by decide) (Nat.zero_le _) (Nat.zero_le _) (Nat.le_of_ble_eq_true rfl)) rfl ?_
      refine j_isub C dX2_tells_69 ?_
      obtain ⟨rfl, rfl⟩ := sp2 h
      exact j_iret C dX2_tells_70 (Nat.zero_le _) (Nat.zero_le _) ⟨rfl, rfl⟩
    replace h := im c1_0 h
    by_cases c1_1 : p2 = 5
    · replace h := ip c1_1 h
      refine j_lookEq C dX2_tells_1 rfl c1_1 (a := 5) rfl rfl (tgt := 71) (by decide) ?_
      refine j_aload_n C dX2_tells_71 rfl rfl ?_
      refine j_bipush C (v := 60) dX2_tells_72 rfl ?_
      obtain ⟨T14, e12, h⟩ := ob h
      refine jm_Vv hκ C (mt_m_ran hκ G e12) hG_m_ran hy_m_ran rfl rfl dX2_tells_74 (jfit.of (by omega) (by decide) (Nat.zero_le _) (Nat.zero_le _) (Nat.le_of_ble_eq_true rfl)) rfl ?_
      refine j_aload_n C dX2_tells_77 rfl rfl ?_
      refine j_iload_n C dX2_tells_78 rfl rfl ?_
      refine j_iconst C (v := 3) dX2_tells_79 rfl ?_
      refine j_iload_n C dX2_tells_80 rfl rfl ?_
      obtain ⟨v16, T17, e15, h⟩ := ob2 h
      refine jm_Vi hκ C (ih e15) hG_m_tells hy_m_tells rfl rfl dX2_tells_81 (jfit.of (by omega) (by decide) (Nat.zero_le _) (Nat.zero_le _) (Nat.le_of_ble_eq_true rfl)) rfl ?_
      refine j_iconst C (v := 5) dX2_tells_84 rfl ?_
      refine j_ixor C dX2_tells_85 ?_
      obtain ⟨rfl, rfl⟩ := sp2 h
      exact j_iret C dX2_tells_86 (Nat.zero_le _) (Nat.zero_le _) ⟨rfl, rfl⟩
    replace h := im c1_1 h
    by_cases c1_2 : p2 = 7
    · replace h := ip c1_2 h
      refine j_lookEq C dX2_tells_1 rfl c1_2 (a := 7) rfl rfl (tgt := 87) (by decide) ?_
      refine j_aload_n C dX2_tells_87 rfl rfl ?_
      refine j_bipush C (v := 81) dX2_tells_88 rfl ?_
      obtain ⟨T20, e18, h⟩ := ob h
      refine jm_Vv hκ C (mt_m_ran hκ G e18) hG_m_ran hy_m_ran rfl rfl dX2_tells_90 (jfit.of (by omega) (by decide) (Nat.zero_le _) (Nat.zero_le _) (Nat.le_of_ble_eq_true rfl)) rfl ?_
      refine j_aload_n C dX2_tells_93 rfl rfl ?_
      refine j_iload_n C dX2_tells_94 rfl rfl ?_
      refine j_iconst C (v := 4) dX2_tells_95 rfl ?_
      refine j_iload_n C dX2_tells_96 rfl rfl ?_
      obtain ⟨v22, T23, e21, h⟩ := ob2 h
      refine jm_Vi hκ C (ih e21) hG_m_tells hy_m_tells rfl rfl dX2_tells_97 (jfit.of (by omega) (by decide) (Nat.zero_le _) (Nat.zero_le _) (Nat.le_of_ble_eq_true rfl)) rfl ?_
      refine j_iconst C (v := 1) dX2_tells_100 rfl ?_
      refine j_isub C dX2_tells_101 ?_
      obtain ⟨rfl, rfl⟩ := sp2 h
      exact j_iret C dX2_tells_102 (Nat.zero_le _) (Nat.zero_le _) ⟨rfl, rfl⟩
    replace h := im c1_2 h
    refine j_lookDef C dX2_tells_1 rfl ⟨tab_ne c1_0 rfl, tab_ne c1_1 rfl, tab_ne c1_2 rfl, trivial⟩ (tgt := 103) (by decide) ?_
    refine j_aload_n C dX2_tells_103 rfl rfl ?_
    refine j_iload_n C dX2_tells_104 rfl rfl ?_
    refine j_iload_n C dX2_tells_105 rfl rfl ?_
    obtain ⟨v25, e24, h⟩ := ob h
    refine j_Si hκ.1 C (mt_m_above hκ e24) hG_m_above hy_m_above rfl dX2_tells_106 (jfit.of (by omega) (by decide) (Nat.zero_le _) (Nat.zero_le _) (Nat.le_of_ble_eq_true rfl)) rfl ?_
    refine j_iload_n C dX2_tells_109 rfl rfl ?_
    obtain ⟨v27, T28, e26, h⟩ := ob2 h
    refine jm_Vi hκ C (ih e26) hG_m_tells hy_m_tells rfl rfl dX2_tells_110 (jfit.of (by omega) (by decide) (Nat.zero_le _) (Nat.zero_le _) (Nat.le_of_ble_eq_true rfl)) rfl ?_
    obtain ⟨rfl, rfl⟩ := sp2 h
    exact j_iret C dX2_tells_113 (Nat.zero_le _) (Nat.zero_le _) ⟨rfl, rfl⟩
/-! act -/
def m_act (T : MS) (p1 : Int32) (p2 : Int32) (p3 : Int32) : Option (Int32 × MS) :=
  nm (sI T 39 0) fun T1 =>
  (m_within p1 0 ((T1.1 37) - 1)).bind fun v3 =>
  (if (b2i v3) = 0 then
  some (0, T1)
  else
  (m_within p2 0 3).bind fun v5 =>
  (if (b2i v5) = 0 then
  some (0, T1)
  else
  chk 50 p1 (
  nm (T1.2.1 38 p1.toNatClampNeg) fun x7 =>
  (if p2 = 0 then
  b2 (m_turnsBy 10 T1 p1 x7 p3) fun v18 T19 =>
  some (v18, T19)
  else
  (if p2 = 1 then
  b2 (m_seesBy 10 T1 p1 x7 p3) fun v15 T16 =>
  some (v15, T16)
  else
  (if p2 = 2 then
  b2 (m_fearsBy 10 T1 p1 x7 p3) fun v12 T13 =>
  some (v12, T13)
  else
  b2 (m_tells 10 T1 p1 x7 p3) fun v9 T10 =>
  some (v9, T10)))))))
theorem mt_m_act {κ : jK} (hκ : jStd κ) (G : Nat → Nat) {T : MS} {p1 : Int32} {p2 : Int32} {p3 : Int32} {v : Int32} {T' : MS} (h : m_act T p1 p2 p3 = some (v, T')) : jM κ yX2_act (ws_ yX2_act cX2_act 5 (some .int)) 42 0 0 [.ref (G 0), .int p1, .int p2, .int p3] (wM κ G T) (fun u w' => u = some (.int v) ∧ w' = wM κ G T') := by
  rw [m_act] at h
  refine jM.of (by decide) rfl (Nat.le_of_ble_eq_true rfl) fun Γ C _ => ?_
  show J κ Γ (42, 0, 0, (fun u w' => u = some (.int v) ∧ w' = wM κ G T')) 5 (wM κ G T) 0 0 0 [some (.ref (G 0)), some (.int p1), some (.int p2), some (.int p3), none] []
  refine j_aload_n C dX2_act_0 rfl rfl ?_
  refine j_iconst C (v := 0) dX2_act_1 rfl ?_
  refine jm_puti hκ C 39 (by decide) rfl rfl rfl q1676 dX2_act_2 ?_
  refine jm_nmT h (fun T1 h => ?_)
  refine j_iload_n C dX2_act_5 rfl rfl ?_
  refine j_iconst C (v := 0) dX2_act_6 rfl ?_
  refine j_aload_n C dX2_act_7 rfl rfl ?_
  refine jm_geti hκ C 37 (by decide) rfl q1674 dX2_act_8 ?_
  refine j_iconst C (v := 1) dX2_act_11 rfl ?_
  refine j_isub C dX2_act_12 ?_
  obtain ⟨v3, e2, h⟩ := ob h
  refine j_Si hκ.1 C (mt_m_within hκ e2) hG_m_within hy_m_within rfl dX2_act_13 (jfit.of (Nat.le_of_ble_eq_true rfl) (by decide) (Nat.zero_le _) (Nat.zero_le _) (Nat.le_of_ble_eq_true rfl)) rfl ?_
  refine j_if_eq C dX2_act_16 (tgt := 28) (by decide) (fun c => ?_) (fun c => ?_)
  · replace h := ip c h
    refine j_iconst C (v := 0) dX2_act_28 rfl ?_
    obtain ⟨rfl, rfl⟩ := sp2 h
    exact j_iret C dX2_act_29 (Nat.zero_le _) (Nat.zero_le _) ⟨rfl, rfl⟩
  replace h := im c h
  refine j_iload_n C dX2_act_19 rfl rfl ?_
  refine j_iconst C (v := 0) dX2_act_20 rfl ?_
  refine j_iconst C (v := 3) dX2_act_21 rfl ?_
  obtain ⟨v5, e4, h⟩ := ob h
  refine j_Si hκ.1 C (mt_m_within hκ e4) hG_m_within hy_m_within rfl dX2_act_22 (jfit.of (Nat.le_of_ble_eq_true rfl) (by decide) (Nat.zero_le _) (Nat.zero_le _) (Nat.le_of_ble_eq_true rfl)) rfl ?_
  refine j_if_ne C dX2_act_25 (tgt := 30) (by decide) (fun c => ?_) (fun c => ?_)
  · replace h := im c h
    refine j_aload_n C dX2_act_30 rfl rfl ?_
    refine jm_geta hκ C 38 (by decide) rfl q1675 dX2_act_31 ?_
    refine j_iload_n C dX2_act_34 rfl rfl ?_
    obtain ⟨b6, h⟩ := chk_some h
    refine jm_iald hκ C 38 rfl b6 dX2_act_35 ?_
    refine j_nmI h (fun x7 h => ?_)
    refine j_istore C dX2_act_36 (by decide) rfl ?_
    refine j_iload_n C dX2_act_38 rfl rfl ?_
    refine j_if_ne C dX2_act_39 (tgt := 53) (by decide) (fun c => ?_) (fun c => ?_)
    · replace h := im c h
      refine j_iload_n C dX2_act_53 rfl rfl ?_
      refine j_iconst C (v := 1) dX2_act_54 rfl ?_
      refine j_icmp_ne C dX2_act_55 (tgt := 69) (by decide) (fun c => ?_) (fun c => ?_)
      · replace h := im c h
        refine j_iload_n C dX2_act_69 rfl rfl ?_
        refine j_iconst C (v := 2) dX2_act_70 rfl ?_
        refine j_icmp_ne C dX2_act_71 (tgt := 85) (by decide) (fun c => ?_) (fun c => ?_)
        · replace h := im c h
          refine j_aload_n C dX2_act_85 rfl rfl ?_
          refine j_iload_n C dX2_act_86 rfl rfl ?_
          refine j_iload C dX2_act_87 rfl ?_
          refine j_iload_n C dX2_act_89 rfl rfl ?_
          obtain ⟨v9, T10, e8, h⟩ := ob2 h
          refine jm_Vi hκ C (mt_m_tells hκ G 10 e8) hG_m_tells hy_m_tells rfl rfl dX2_act_90 (jfit.of (Nat.le_of_ble_eq_true rfl) (by decide) (Nat.zero_le _) (Nat.zero_le _) (Nat.le_of_ble_eq_true rfl)) rfl ?_
          obtain ⟨rfl, rfl⟩ := sp2 h
          exact j_iret C dX2_act_93 (Nat.zero_le _) (Nat.zero_le _) ⟨rfl, rfl⟩
        replace h := ip c h
        refine j_aload_n C dX2_act_74 rfl rfl ?_
        refine j_iload_n C dX2_act_75 rfl rfl ?_
        refine j_iload C dX2_act_76 rfl ?_
        refine j_iload_n C dX2_act_78 rfl rfl ?_
        obtain ⟨v12, T13, e11, h⟩ := ob2 h
        refine jm_Vi hκ C (mt_m_fearsBy hκ G 10 e11) hG_m_fearsBy hy_m_fearsBy rfl rfl dX2_act_79 (jfit.of (Nat.le_of_ble_eq_true rfl) (by decide) (Nat.zero_le _) (Nat.zero_le _) (Nat.le_of_ble_eq_true rfl)) rfl ?_
        refine j_goto C dX2_act_82 (tgt := 93) (by decide) ?_
        obtain ⟨rfl, rfl⟩ := sp2 h
        exact j_iret C dX2_act_93 (Nat.zero_le _) (Nat.zero_le _) ⟨rfl, rfl⟩
      replace h := ip c h
      refine j_aload_n C dX2_act_58 rfl rfl ?_
      refine j_iload_n C dX2_act_59 rfl rfl ?_
      refine j_iload C dX2_act_60 rfl ?_
      refine j_iload_n C dX2_act_62 rfl rfl ?_
      obtain ⟨v15, T16, e14, h⟩ := ob2 h
      refine jm_Vi hκ C (mt_m_seesBy hκ G 10 e14) hG_m_seesBy hy_m_seesBy rfl rfl dX2_act_63 (jfit.of (Nat.le_of_ble_eq_true rfl) (by decide) (Nat.zero_le _) (Nat.zero_le _) (Nat.le_of_ble_eq_true rfl)) rfl ?_
      refine j_goto C dX2_act_66 (tgt := 93) (by decide) ?_
      obtain ⟨rfl, rfl⟩ := sp2 h
      exact j_iret C dX2_act_93 (Nat.zero_le _) (Nat.zero_le _) ⟨rfl, rfl⟩
    replace h := ip c h
    refine j_aload_n C dX2_act_42 rfl rfl ?_
    refine j_iload_n C dX2_act_43 rfl rfl ?_
    refine j_iload C dX2_act_44 rfl ?_
    refine j_iload_n C dX2_act_46 rfl rfl ?_
    obtain ⟨v18, T19, e17, h⟩ := ob2 h
    refine jm_Vi hκ C (mt_m_turnsBy hκ G 10 e17) hG_m_turnsBy hy_m_turnsBy rfl rfl dX2_act_47 (jfit.of (Nat.le_of_ble_eq_true rfl) (by decide) (Nat.zero_le _) (Nat.zero_le _) (Nat.le_of_ble_eq_true rfl)) rfl ?_
    refine j_goto C dX2_act_50 (tgt := 93) (by decide) ?_
    obtain ⟨rfl, rfl⟩ := sp2 h
    exact j_iret C dX2_act_93 (Nat.zero_le _) (Nat.zero_le _) ⟨rfl, rfl⟩
  replace h := ip c h
  refine j_iconst C (v := 0) dX2_act_28 rfl ?_
  obtain ⟨rfl, rfl⟩ := sp2 h
  exact j_iret C dX2_act_29 (Nat.zero_le _) (Nat.zero_le _) ⟨rfl, rfl⟩
/-! trace -/
def m_trace (T : MS) (p1 : Int32) : Option Int32 :=
  (m_within p1 0 ((jmin 24 (T.1 39)) - 1)).bind fun v2 =>
  (if (b2i v2) = 0 then
  some (-1)
  else
  chk 24 p1 (
  some (T.2.1 40 p1.toNatClampNeg)))
theorem mt_m_trace {κ : jK} (hκ : jStd κ) (G : Nat → Nat) {T : MS} {p1 : Int32} {v : Int32} (h : m_trace T p1 = some v) : jM κ yX2_trace (ws_ yX2_trace cX2_trace 2 (some .int)) 1 0 0 [.ref (G 0), .int p1] (wM κ G T) (fun u w' => u = some (.int v) ∧ w' = wM κ G T) := by
  rw [m_trace] at h
  refine jM.of (by decide) rfl (Nat.le_of_ble_eq_true rfl) fun Γ C _ => ?_
  show J κ Γ (1, 0, 0, (fun u w' => u = some (.int v) ∧ w' = wM κ G T)) 2 (wM κ G T) 0 0 0 [some (.ref (G 0)), some (.int p1)] []
  refine j_iload_n C dX2_trace_0 rfl rfl ?_
  refine j_iconst C (v := 0) dX2_trace_1 rfl ?_
  refine j_bipush C (v := 24) dX2_trace_2 rfl ?_
  refine j_aload_n C dX2_trace_4 rfl rfl ?_
  refine jm_geti hκ C 39 (by decide) rfl q1676 dX2_trace_5 ?_
  refine j_mmin C dX2_trace_8 q1986 q698 q129 q699 (Nat.le_of_ble_eq_true rfl) (Nat.le_of_ble_eq_true rfl) (Nat.zero_le _) (Nat.zero_le _) ?_
  refine j_iconst C (v := 1) dX2_trace_11 rfl ?_
  refine j_isub C dX2_trace_12 ?_
  obtain ⟨v2, e1, h⟩ := ob h
  refine j_Si hκ.1 C (mt_m_within hκ e1) hG_m_within hy_m_within rfl dX2_trace_13 (jfit.of (Nat.le_of_ble_eq_true rfl) (by decide) (Nat.zero_le _) (Nat.zero_le _) (Nat.le_of_ble_eq_true rfl)) rfl ?_
  refine j_if_eq C dX2_trace_16 (tgt := 28) (by decide) (fun c => ?_) (fun c => ?_)
  · replace h := ip c h
    refine j_iconst C (v := (-1)) dX2_trace_28 rfl ?_
    obtain rfl := sp1 h
    exact j_iret C dX2_trace_29 (Nat.zero_le _) (Nat.zero_le _) ⟨rfl, rfl⟩
  replace h := im c h
  refine j_aload_n C dX2_trace_19 rfl rfl ?_
  refine jm_geta hκ C 40 (by decide) rfl q1677 dX2_trace_20 ?_
  refine j_iload_n C dX2_trace_23 rfl rfl ?_
  obtain ⟨b3, h⟩ := chk_some h
  refine jm_iald hκ C 40 rfl b3 dX2_trace_24 ?_
  refine j_goto C dX2_trace_25 (tgt := 29) (by decide) ?_
  obtain rfl := sp1 h
  exact j_iret C dX2_trace_29 (Nat.zero_le _) (Nat.zero_le _) ⟨rfl, rfl⟩
/-! keep -/
def m_keep_b40 (l1 : Int32) (T : MS) (s2 : Int32) (s3 : Int32) : Option (Int32 × MS) :=
  chk 6 s2 (
  nm (sA T 41 s2.toNatClampNeg s3) fun T1 =>
  chk 6 l1 (
  nm (sA T1 42 l1.toNatClampNeg 0) fun T3 =>
  some (1, T3)))
theorem wm_keep_b40 {κ : jK} (hκ : jStd κ) {Γ : jG} (C : jC κ Γ cX2_keep 3 RX2 (some .int)) {G : Nat → Nat} (l1 : Int32) {v : Int32} {T' : MS} : ∀ (T : MS) (s2 : Int32) (s3 : Int32), m_keep_b40 l1 T s2 s3 = some (v, T') → J κ Γ (2, 0, 0, (fun u w' => u = some (.int v) ∧ w' = wM κ G T')) 3 (wM κ G T) 0 0 40 [some (.ref (G 0)), some (.int l1), none] [.int s3, .int s2, .ref (G (41 + 1))] := by
  intro T s2 s3 h
  rw [m_keep_b40] at h
  obtain ⟨b2, h⟩ := chk_some h
  refine jm_iast hκ C 41 rfl b2 dX2_keep_40 ?_
  refine jm_nmT h (fun T1 h => ?_)
  refine j_aload_n C dX2_keep_41 rfl rfl ?_
  refine jm_geta hκ C 42 (by decide) rfl q1679 dX2_keep_42 ?_
  refine j_iload_n C dX2_keep_45 rfl rfl ?_
  refine j_iconst C (v := 0) dX2_keep_46 rfl ?_
  obtain ⟨b4, h⟩ := chk_some h
  refine jm_iast hκ C 42 rfl b4 dX2_keep_47 ?_
  refine jm_nmT h (fun T3 h => ?_)
  refine j_iconst C (v := 1) dX2_keep_48 rfl ?_
  obtain ⟨rfl, rfl⟩ := sp2 h
  exact j_iret C dX2_keep_49 (Nat.zero_le _) (Nat.zero_le _) ⟨rfl, rfl⟩
def m_keep (T : MS) (p1 : Int32) (p2 : Int32) : Option (Int32 × MS) :=
  (m_isShelf p1).bind fun v2 =>
  (if (b2i v2) = 0 then
  some ((-1), T)
  else
  (m_within p2 (-1) ((T.1 37) - 1)).bind fun v4 =>
  (if (b2i v4) = 0 then
  some ((-1), T)
  else
  (if 0 ≤ p2 then
  m_keep_b40 p1 T p1 (10 + p2)
  else
  m_keep_b40 p1 T p1 (-1))))
theorem mt_m_keep {κ : jK} (hκ : jStd κ) (G : Nat → Nat) {T : MS} {p1 : Int32} {p2 : Int32} {v : Int32} {T' : MS} (h : m_keep T p1 p2 = some (v, T')) : jM κ yX2_keep (ws_ yX2_keep cX2_keep 3 (some .int)) 2 0 0 [.ref (G 0), .int p1, .int p2] (wM κ G T) (fun u w' => u = some (.int v) ∧ w' = wM κ G T') := by
  rw [m_keep] at h
  refine jM.of (by decide) rfl (Nat.le_of_ble_eq_true rfl) fun Γ C _ => ?_
  show J κ Γ (2, 0, 0, (fun u w' => u = some (.int v) ∧ w' = wM κ G T')) 3 (wM κ G T) 0 0 0 [some (.ref (G 0)), some (.int p1), some (.int p2)] []
  refine j_iload_n C dX2_keep_0 rfl rfl ?_
  obtain ⟨v2, e1, h⟩ := ob h
  refine j_Si hκ.1 C (mt_m_isShelf hκ e1) hG_m_isShelf hy_m_isShelf rfl dX2_keep_1 (jfit.of (Nat.le_of_ble_eq_true rfl) (by decide) (Nat.zero_le _) (Nat.zero_le _) (Nat.le_of_ble_eq_true rfl)) rfl ?_
  refine j_if_eq C dX2_keep_4 (tgt := 21) (by decide) (fun c => ?_) (fun c => ?_)
  · replace h := ip c h
    refine j_iconst C (v := (-1)) dX2_keep_21 rfl ?_
    obtain ⟨rfl, rfl⟩ := sp2 h
    exact j_iret C dX2_keep_22 (Nat.zero_le _) (Nat.zero_le _) ⟨rfl, rfl⟩
  replace h := im c h
  refine j_iload_n C dX2_keep_7 rfl rfl ?_
  refine j_iconst C (v := (-1)) dX2_keep_8 rfl ?_
  refine j_aload_n C dX2_keep_9 rfl rfl ?_
  refine jm_geti hκ C 37 (by decide) rfl q1674 dX2_keep_10 ?_
  refine j_iconst C (v := 1) dX2_keep_13 rfl ?_
  refine j_isub C dX2_keep_14 ?_
  obtain ⟨v4, e3, h⟩ := ob h
  refine j_Si hκ.1 C (mt_m_within hκ e3) hG_m_within hy_m_within rfl dX2_keep_15 (jfit.of (Nat.le_of_ble_eq_true rfl) (by decide) (Nat.zero_le _) (Nat.zero_le _) (Nat.le_of_ble_eq_true rfl)) rfl ?_
  refine j_if_ne C dX2_keep_18 (tgt := 23) (by decide) (fun c => ?_) (fun c => ?_)
  · replace h := im c h
    refine j_aload_n C dX2_keep_23 rfl rfl ?_
    refine jm_geta hκ C 41 (by decide) rfl q1678 dX2_keep_24 ?_
    refine j_iload_n C dX2_keep_27 rfl rfl ?_
    refine j_iload_n C dX2_keep_28 rfl rfl ?_
    refine j_if_ge C dX2_keep_29 (tgt := 36) (by decide) (fun c => ?_) (fun c => ?_)
    · replace h := ip c h
      refine j_bipush C (v := 10) dX2_keep_36 rfl ?_
      refine j_iload_n C dX2_keep_38 rfl rfl ?_
      refine j_iadd C dX2_keep_39 ?_
      exact j_sub (wm_keep_b40 hκ C _ _ _ _ h) ⟨rfl, ⟨rfl, trivial⟩⟩
    replace h := im c h
    refine j_iconst C (v := (-1)) dX2_keep_32 rfl ?_
    refine j_goto C dX2_keep_33 (tgt := 40) (by decide) ?_
    exact j_sub (wm_keep_b40 hκ C _ _ _ _ h) ⟨rfl, ⟨rfl, trivial⟩⟩
  replace h := ip c h
  refine j_iconst C (v := (-1)) dX2_keep_21 rfl ?_
  obtain ⟨rfl, rfl⟩ := sp2 h
  exact j_iret C dX2_keep_22 (Nat.zero_le _) (Nat.zero_le _) ⟨rfl, rfl⟩
/-! row -/
def m_row_b48 (N : Nat) (l1 : Int32) : Nat → MS → Int32 → Option (Int32 × MS)
  | 0, _, _ => none
  | n + 1, T, l4 =>
    (if 60 ≤ l4 then
    some (1, T)
    else
    chk 360 ((60 * l1) + l4) (
    nm (sL T ((60 * l1) + l4).toNatClampNeg 0) fun T1 =>
    nm (l4 + 1) fun x3 =>
    m_row_b48 N l1 n T1 x3))
theorem wm_row_b48 {κ : jK} (hκ : jStd κ) (N : Nat) {Γ : jG} (C : jC κ Γ cX2_row 5 RX2 (some .int)) {G : Nat → Nat} (l1 : Int32) {v : Int32} {T' : MS} : ∀ (n : Nat) (T : MS) (l4 : Int32), m_row_b48 N l1 n T l4 = some (v, T') → J κ Γ (2, 0, 0, (fun u w' => u = some (.int v) ∧ w' = wM κ G T')) 5 (wM κ G T) 0 0 48 [some (.ref (G 0)), some (.int l1), none, none, some (.int l4)] [] := by
  intro n
  induction n with
  | zero => intro _ _ h; cases h
  | succ n ih =>
    intro T l4 h
    rw [m_row_b48] at h
    refine j_iload C dX2_row_48 rfl ?_
    refine j_bipush C (v := 60) dX2_row_50 rfl ?_
    refine j_icmp_ge C dX2_row_52 (tgt := 74) (by decide) (fun c => ?_) (fun c => ?_)
    · replace h := ip c h
      refine j_iconst C (v := 1) dX2_row_74 rfl ?_
      obtain ⟨rfl, rfl⟩ := sp2 h
      exact j_iret C dX2_row_75 (Nat.zero_le _) (Nat.zero_le _) ⟨rfl, rfl⟩
    replace h := im c h
    refine j_aload_n C dX2_row_55 rfl rfl ?_
    refine jm_geta hκ C 43 (by decide) rfl q1680 dX2_row_56 ?_
    refine j_bipush C (v := 60) dX2_row_59 rfl ?_
    refine j_iload_n C dX2_row_61 rfl rfl ?_
    refine j_imul C dX2_row_62 ?_
    refine j_iload C dX2_row_63 rfl ?_
    refine j_iadd C dX2_row_65 ?_
    refine j_lconst C (v := 0) dX2_row_66 rfl ?_
    obtain ⟨b2, h⟩ := chk_some h
    refine jm_last hκ C 43 rfl b2 dX2_row_67 ?_
    refine jm_nmT h (fun T1 h => ?_)
    refine j_iincN C h dX2_row_68 rfl rfl (by decide) rfl (fun x3 h => ?_)
    refine j_goto C dX2_row_71 (tgt := 48) (by decide) ?_
    exact j_sub (ih _ _ h) ⟨rfl, ⟨rfl, ⟨rfl, trivial⟩⟩⟩
def m_row (N : Nat) (T : MS) (p1 : Int32) (p2 : Int32) (p3 : Int32) : Option (Int32 × MS) :=
  (m_isShelf p1).bind fun v2 =>
  (if (b2i v2) = 0 then
  some ((-1), T)
  else
  (m_within p2 0 4).bind fun v4 =>
  (if (b2i v4) = 0 then
  some ((-1), T)
  else
  (if p3 ≤ 60 then
  (if 0 ≤ p3 then
  chk 6 p1 (
  nm (sA T 41 p1.toNatClampNeg p2) fun T5 =>
  chk 6 p1 (
  nm (sA T5 42 p1.toNatClampNeg p3) fun T7 =>
  m_row_b48 N p1 N T7 0))
  else
  some ((-14), T))
  else
  some ((-1), T))))
theorem mt_m_row {κ : jK} (hκ : jStd κ) (N : Nat) (G : Nat → Nat) {T : MS} {p1 : Int32} {p2 : Int32} {p3 : Int32} {v : Int32} {T' : MS} (h : m_row N T p1 p2 p3 = some (v, T')) : jM κ yX2_row (ws_ yX2_row cX2_row 5 (some .int)) 2 0 0 [.ref (G 0), .int p1, .int p2, .int p3] (wM κ G T) (fun u w' => u = some (.int v) ∧ w' = wM κ G T') := by
  rw [m_row] at h
  refine jM.of (by decide) rfl (Nat.le_of_ble_eq_true rfl) fun Γ C _ => ?_
  show J κ Γ (2, 0, 0, (fun u w' => u = some (.int v) ∧ w' = wM κ G T')) 5 (wM κ G T) 0 0 0 [some (.ref (G 0)), some (.int p1), some (.int p2), some (.int p3), none] []
  refine j_iload_n C dX2_row_0 rfl rfl ?_
  obtain ⟨v2, e1, h⟩ := ob h
  refine j_Si hκ.1 C (mt_m_isShelf hκ e1) hG_m_isShelf hy_m_isShelf rfl dX2_row_1 (jfit.of (Nat.le_of_ble_eq_true rfl) (by decide) (Nat.zero_le _) (Nat.zero_le _) (Nat.le_of_ble_eq_true rfl)) rfl ?_
  refine j_if_eq C dX2_row_4 (tgt := 22) (by decide) (fun c => ?_) (fun c => ?_)
  · replace h := ip c h
    refine j_iconst C (v := (-1)) dX2_row_22 rfl ?_
    obtain ⟨rfl, rfl⟩ := sp2 h
    exact j_iret C dX2_row_23 (Nat.zero_le _) (Nat.zero_le _) ⟨rfl, rfl⟩
  replace h := im c h
  refine j_iload_n C dX2_row_7 rfl rfl ?_
  refine j_iconst C (v := 0) dX2_row_8 rfl ?_
  refine j_iconst C (v := 4) dX2_row_9 rfl ?_
  obtain ⟨v4, e3, h⟩ := ob h
  refine j_Si hκ.1 C (mt_m_within hκ e3) hG_m_within hy_m_within rfl dX2_row_10 (jfit.of (Nat.le_of_ble_eq_true rfl) (by decide) (Nat.zero_le _) (Nat.zero_le _) (Nat.le_of_ble_eq_true rfl)) rfl ?_
  refine j_if_eq C dX2_row_13 (tgt := 22) (by decide) (fun c => ?_) (fun c => ?_)
  · replace h := ip c h
    refine j_iconst C (v := (-1)) dX2_row_22 rfl ?_
    obtain ⟨rfl, rfl⟩ := sp2 h
    exact j_iret C dX2_row_23 (Nat.zero_le _) (Nat.zero_le _) ⟨rfl, rfl⟩
  replace h := im c h
  refine j_iload_n C dX2_row_16 rfl rfl ?_
  refine j_bipush C (v := 60) dX2_row_17 rfl ?_
  refine j_icmp_le C dX2_row_19 (tgt := 24) (by decide) (fun c => ?_) (fun c => ?_)
  · replace h := ip c h
    refine j_iload_n C dX2_row_24 rfl rfl ?_
    refine j_if_ge C dX2_row_25 (tgt := 31) (by decide) (fun c => ?_) (fun c => ?_)
    · replace h := ip c h
      refine j_aload_n C dX2_row_31 rfl rfl ?_
      refine jm_geta hκ C 41 (by decide) rfl q1678 dX2_row_32 ?_
      refine j_iload_n C dX2_row_35 rfl rfl ?_
      refine j_iload_n C dX2_row_36 rfl rfl ?_
      obtain ⟨b6, h⟩ := chk_some h
      refine jm_iast hκ C 41 rfl b6 dX2_row_37 ?_
      refine jm_nmT h (fun T5 h => ?_)
      refine j_aload_n C dX2_row_38 rfl rfl ?_
      refine jm_geta hκ C 42 (by decide) rfl q1679 dX2_row_39 ?_
      refine j_iload_n C dX2_row_42 rfl rfl ?_
      refine j_iload_n C dX2_row_43 rfl rfl ?_
      obtain ⟨b8, h⟩ := chk_some h
      refine jm_iast hκ C 42 rfl b8 dX2_row_44 ?_
      refine jm_nmT h (fun T7 h => ?_)
      refine j_iconst C (v := 0) dX2_row_45 rfl ?_
      refine j_istore C dX2_row_46 (by decide) rfl ?_
      exact j_sub (wm_row_b48 hκ N C _ N _ _ h) ⟨rfl, ⟨rfl, ⟨rfl, trivial⟩⟩⟩
    replace h := im c h
    refine j_bipush C (v := (-14)) dX2_row_28 rfl ?_
    obtain ⟨rfl, rfl⟩ := sp2 h
    exact j_iret C dX2_row_30 (Nat.zero_le _) (Nat.zero_le _) ⟨rfl, rfl⟩
  replace h := im c h
  refine j_iconst C (v := (-1)) dX2_row_22 rfl ?_
  obtain ⟨rfl, rfl⟩ := sp2 h
  exact j_iret C dX2_row_23 (Nat.zero_le _) (Nat.zero_le _) ⟨rfl, rfl⟩
/-! isRow -/
def m_isRow (T : MS) (p1 : Int32) : Option Bool :=
  chk 6 p1 (
  (m_within (T.2.1 41 p1.toNatClampNeg) 0 4).bind fun v3 =>
  some v3)
theorem mt_m_isRow {κ : jK} (hκ : jStd κ) (G : Nat → Nat) {T : MS} {p1 : Int32} {v : Bool} (h : m_isRow T p1 = some v) : jM κ yX2_isRow (ws_ yX2_isRow cX2_isRow 2 (some .boolean)) 1 0 0 [.ref (G 0), .int p1] (wM κ G T) (fun u w' => u = some (.int (b2i v)) ∧ w' = wM κ G T) := by
  rw [m_isRow] at h
  refine jM.of (by decide) rfl (Nat.le_of_ble_eq_true rfl) fun Γ C _ => ?_
  show J κ Γ (1, 0, 0, (fun u w' => u = some (.int (b2i v)) ∧ w' = wM κ G T)) 2 (wM κ G T) 0 0 0 [some (.ref (G 0)), some (.int p1)] []
  refine j_aload_n C dX2_isRow_0 rfl rfl ?_
  refine jm_geta hκ C 41 (by decide) rfl q1678 dX2_isRow_1 ?_
  refine j_iload_n C dX2_isRow_4 rfl rfl ?_
  obtain ⟨b1, h⟩ := chk_some h
  refine jm_iald hκ C 41 rfl b1 dX2_isRow_5 ?_
  refine j_iconst C (v := 0) dX2_isRow_6 rfl ?_
  refine j_iconst C (v := 4) dX2_isRow_7 rfl ?_
  obtain ⟨v3, e2, h⟩ := ob h
  refine j_Si hκ.1 C (mt_m_within hκ e2) hG_m_within hy_m_within rfl dX2_isRow_8 (jfit.of (Nat.le_of_ble_eq_true rfl) (by decide) (Nat.zero_le _) (Nat.zero_le _) (Nat.le_of_ble_eq_true rfl)) rfl ?_
  obtain rfl := sp1 h
  exact j_zret C (b2i_z _) dX2_isRow_11 (Nat.zero_le _) (Nat.zero_le _) ⟨rfl, rfl⟩
/-! kept -/
def m_kept (p1 : Int32) (p2 : Int64) : Option Int64 :=
  (if p1 = 0 then
  some p2.toInt32.toInt8.toInt32.toInt64
  else if p1 = 1 then
  some p2.toInt32.toInt16.toInt32.toInt64
  else if p1 = 2 then
  some p2.toInt32.toInt64
  else if p1 = 3 then
  some p2
  else 
  (if (lg_cmp p2 0) = 0 then
  some 0
  else
  some 1))
theorem mt_m_kept {κ : jK} (hκ : jStd κ) {w : jW} {p1 : Int32} {p2 : Int64} {v : Int64} (h : m_kept p1 p2 = some v) : jM κ yX2_kept (ws_ yX2_kept cX2_kept 3 (some .long)) 0 0 0 [.int p1, .long p2] (w) (fun u w' => u = some (.long v) ∧ w' = w) := by
  rw [m_kept] at h
  refine jM.of (by decide) rfl (Nat.le_of_ble_eq_true rfl) fun Γ C _ => ?_
  show J κ Γ (0, 0, 0, (fun u w' => u = some (.long v) ∧ w' = w)) 3 (w) 0 0 0 [some (.int p1), some (.long p2), none] []
  refine j_iload_n C dX2_kept_0 rfl rfl ?_
  by_cases c1_0 : p1 = 0
  · replace h := ip c1_0 h
    refine j_tabEq C dX2_kept_1 c1_0 (a := 0) rfl (by decide) (by decide) rfl (tgt := 32) (by decide) ?_
    refine j_lload_n C dX2_kept_32 rfl rfl ?_
    refine j_l2i C dX2_kept_33 ?_
    refine j_i2b C dX2_kept_34 ?_
    refine j_i2l C dX2_kept_35 ?_
    obtain rfl := sp1 h
    exact j_lret C dX2_kept_36 (Nat.zero_le _) (Nat.zero_le _) ⟨rfl, rfl⟩
  replace h := im c1_0 h
  by_cases c1_1 : p1 = 1
  · replace h := ip c1_1 h
    refine j_tabEq C dX2_kept_1 c1_1 (a := 1) rfl (by decide) (by decide) rfl (tgt := 37) (by decide) ?_
    refine j_lload_n C dX2_kept_37 rfl rfl ?_
    refine j_l2i C dX2_kept_38 ?_
    refine j_i2s C dX2_kept_39 ?_
    refine j_i2l C dX2_kept_40 ?_
    obtain rfl := sp1 h
    exact j_lret C dX2_kept_41 (Nat.zero_le _) (Nat.zero_le _) ⟨rfl, rfl⟩
  replace h := im c1_1 h
  by_cases c1_2 : p1 = 2
  · replace h := ip c1_2 h
    refine j_tabEq C dX2_kept_1 c1_2 (a := 2) rfl (by decide) (by decide) rfl (tgt := 42) (by decide) ?_
    refine j_lload_n C dX2_kept_42 rfl rfl ?_
    refine j_l2i C dX2_kept_43 ?_
    refine j_i2l C dX2_kept_44 ?_
    obtain rfl := sp1 h
    exact j_lret C dX2_kept_45 (Nat.zero_le _) (Nat.zero_le _) ⟨rfl, rfl⟩
  replace h := im c1_2 h
  by_cases c1_3 : p1 = 3
  · replace h := ip c1_3 h
    refine j_tabEq C dX2_kept_1 c1_3 (a := 3) rfl (by decide) (by decide) rfl (tgt := 46) (by decide) ?_
    refine j_lload_n C dX2_kept_46 rfl rfl ?_
    obtain rfl := sp1 h
    exact j_lret C dX2_kept_47 (Nat.zero_le _) (Nat.zero_le _) ⟨rfl, rfl⟩
  replace h := im c1_3 h
  refine j_tabDef C [0, 1, 2, 3] dX2_kept_1 ⟨tab_ne c1_0 rfl, tab_ne c1_1 rfl, tab_ne c1_2 rfl, tab_ne c1_3 rfl, trivial⟩ rfl rfl (tgt := 48) (by decide) ?_
  refine j_lload_n C dX2_kept_48 rfl rfl ?_
  refine j_lconst C (v := 0) dX2_kept_49 rfl ?_
  refine j_lcmp C dX2_kept_50 ?_
  refine j_if_eq C dX2_kept_51 (tgt := 58) (by decide) (fun c => ?_) (fun c => ?_)
  · replace h := ip c h
    refine j_lconst C (v := 0) dX2_kept_58 rfl ?_
    obtain rfl := sp1 h
    exact j_lret C dX2_kept_59 (Nat.zero_le _) (Nat.zero_le _) ⟨rfl, rfl⟩
  replace h := im c h
  refine j_lconst C (v := 1) dX2_kept_54 rfl ?_
  refine j_goto C dX2_kept_55 (tgt := 59) (by decide) ?_
  obtain rfl := sp1 h
  exact j_lret C dX2_kept_59 (Nat.zero_le _) (Nat.zero_le _) ⟨rfl, rfl⟩
/-! put -/
def m_put (T : MS) (p1 : Int32) (p2 : Int32) (p3 : Int64) : Option (Int32 × MS) :=
  (m_isShelf p1).bind fun v2 =>
  (if (b2i v2) = 0 then
  some ((-1), T)
  else
  chk 6 p1 (
  (if (T.2.1 41 p1.toNatClampNeg) = (-1) then
  some ((-11), T)
  else
  (m_isRow T p1).bind fun v5 =>
  (if (b2i v5) = 0 then
  some ((-12), T)
  else
  chk 6 p1 (
  (m_within p2 0 ((T.2.1 42 p1.toNatClampNeg) - 1)).bind fun v8 =>
  (if (b2i v8) = 0 then
  some ((-13), T)
  else
  chk 6 p1 (
  (m_kept (T.2.1 41 p1.toNatClampNeg) p3).bind fun v11 =>
  chk 360 ((60 * p1) + p2) (
  nm (sL T ((60 * p1) + p2).toNatClampNeg v11) fun T12 =>
  some (1, T12)))))))))
theorem mt_m_put {κ : jK} (hκ : jStd κ) (G : Nat → Nat) {T : MS} {p1 : Int32} {p2 : Int32} {p3 : Int64} {v : Int32} {T' : MS} (h : m_put T p1 p2 p3 = some (v, T')) : jM κ yX2_put (ws_ yX2_put cX2_put 5 (some .int)) 2 0 0 [.ref (G 0), .int p1, .int p2, .long p3] (wM κ G T) (fun u w' => u = some (.int v) ∧ w' = wM κ G T') := by
  rw [m_put] at h
  refine jM.of (by decide) rfl (Nat.le_of_ble_eq_true rfl) fun Γ C _ => ?_
  show J κ Γ (2, 0, 0, (fun u w' => u = some (.int v) ∧ w' = wM κ G T')) 5 (wM κ G T) 0 0 0 [some (.ref (G 0)), some (.int p1), some (.int p2), some (.long p3), none] []
  refine j_iload_n C dX2_put_0 rfl rfl ?_
  obtain ⟨v2, e1, h⟩ := ob h
  refine j_Si hκ.1 C (mt_m_isShelf hκ e1) hG_m_isShelf hy_m_isShelf rfl dX2_put_1 (jfit.of (Nat.le_of_ble_eq_true rfl) (by decide) (Nat.zero_le _) (Nat.zero_le _) (Nat.le_of_ble_eq_true rfl)) rfl ?_
  refine j_if_ne C dX2_put_4 (tgt := 9) (by decide) (fun c => ?_) (fun c => ?_)
  · replace h := im c h
    refine j_aload_n C dX2_put_9 rfl rfl ?_
    refine jm_geta hκ C 41 (by decide) rfl q1678 dX2_put_10 ?_
    refine j_iload_n C dX2_put_13 rfl rfl ?_
    obtain ⟨b3, h⟩ := chk_some h
    refine jm_iald hκ C 41 rfl b3 dX2_put_14 ?_
    refine j_iconst C (v := (-1)) dX2_put_15 rfl ?_
    refine j_icmp_ne C dX2_put_16 (tgt := 22) (by decide) (fun c => ?_) (fun c => ?_)
    · replace h := im c h
      refine j_aload_n C dX2_put_22 rfl rfl ?_
      refine j_iload_n C dX2_put_23 rfl rfl ?_
      obtain ⟨v5, e4, h⟩ := ob h
      refine jm_Vi hκ C (mt_m_isRow hκ G e4) hG_m_isRow hy_m_isRow rfl rfl dX2_put_24 (jfit.of (Nat.le_of_ble_eq_true rfl) (by decide) (Nat.zero_le _) (Nat.zero_le _) (Nat.le_of_ble_eq_true rfl)) rfl ?_
      refine j_if_ne C dX2_put_27 (tgt := 33) (by decide) (fun c => ?_) (fun c => ?_)
      · replace h := im c h
        refine j_iload_n C dX2_put_33 rfl rfl ?_
        refine j_iconst C (v := 0) dX2_put_34 rfl ?_
        refine j_aload_n C dX2_put_35 rfl rfl ?_
        refine jm_geta hκ C 42 (by decide) rfl q1679 dX2_put_36 ?_
        refine j_iload_n C dX2_put_39 rfl rfl ?_
        obtain ⟨b6, h⟩ := chk_some h
        refine jm_iald hκ C 42 rfl b6 dX2_put_40 ?_
        refine j_iconst C (v := 1) dX2_put_41 rfl ?_
        refine j_isub C dX2_put_42 ?_
        obtain ⟨v8, e7, h⟩ := ob h
        refine j_Si hκ.1 C (mt_m_within hκ e7) hG_m_within hy_m_within rfl dX2_put_43 (jfit.of (Nat.le_of_ble_eq_true rfl) (by decide) (Nat.zero_le _) (Nat.zero_le _) (Nat.le_of_ble_eq_true rfl)) rfl ?_
        refine j_if_ne C dX2_put_46 (tgt := 52) (by decide) (fun c => ?_) (fun c => ?_)
        · replace h := im c h
          refine j_aload_n C dX2_put_52 rfl rfl ?_
          refine jm_geta hκ C 43 (by decide) rfl q1680 dX2_put_53 ?_
          refine j_bipush C (v := 60) dX2_put_56 rfl ?_
          refine j_iload_n C dX2_put_58 rfl rfl ?_
          refine j_imul C dX2_put_59 ?_
          refine j_iload_n C dX2_put_60 rfl rfl ?_
          refine j_iadd C dX2_put_61 ?_
          refine j_aload_n C dX2_put_62 rfl rfl ?_
          refine jm_geta hκ C 41 (by decide) rfl q1678 dX2_put_63 ?_
          refine j_iload_n C dX2_put_66 rfl rfl ?_
          obtain ⟨b9, h⟩ := chk_some h
          refine jm_iald hκ C 41 rfl b9 dX2_put_67 ?_
          refine j_lload_n C dX2_put_68 rfl rfl ?_
          obtain ⟨v11, e10, h⟩ := ob h
          refine j_Sl hκ.1 C (mt_m_kept hκ e10) hG_m_kept hy_m_kept rfl dX2_put_69 (jfit.of (Nat.le_of_ble_eq_true rfl) (by decide) (Nat.zero_le _) (Nat.zero_le _) (Nat.le_of_ble_eq_true rfl)) rfl ?_
          obtain ⟨b13, h⟩ := chk_some h
          refine jm_last hκ C 43 rfl b13 dX2_put_72 ?_
          refine jm_nmT h (fun T12 h => ?_)
          refine j_iconst C (v := 1) dX2_put_73 rfl ?_
          obtain ⟨rfl, rfl⟩ := sp2 h
          exact j_iret C dX2_put_74 (Nat.zero_le _) (Nat.zero_le _) ⟨rfl, rfl⟩
        replace h := ip c h
        refine j_bipush C (v := (-13)) dX2_put_49 rfl ?_
        obtain ⟨rfl, rfl⟩ := sp2 h
        exact j_iret C dX2_put_51 (Nat.zero_le _) (Nat.zero_le _) ⟨rfl, rfl⟩
      replace h := ip c h
      refine j_bipush C (v := (-12)) dX2_put_30 rfl ?_
      obtain ⟨rfl, rfl⟩ := sp2 h
      exact j_iret C dX2_put_32 (Nat.zero_le _) (Nat.zero_le _) ⟨rfl, rfl⟩
    replace h := ip c h
    refine j_bipush C (v := (-11)) dX2_put_19 rfl ?_
    obtain ⟨rfl, rfl⟩ := sp2 h
    exact j_iret C dX2_put_21 (Nat.zero_le _) (Nat.zero_le _) ⟨rfl, rfl⟩
  replace h := ip c h
  refine j_iconst C (v := (-1)) dX2_put_7 rfl ?_
  obtain ⟨rfl, rfl⟩ := sp2 h
  exact j_iret C dX2_put_8 (Nat.zero_le _) (Nat.zero_le _) ⟨rfl, rfl⟩
