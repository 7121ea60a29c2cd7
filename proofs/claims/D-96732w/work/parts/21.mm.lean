set_option maxRecDepth 100000
/-! law -/
def m_law_b151 (N : Nat) : Nat → MS → Int32 → Option (Int32 × MS)
  | 0, _, _ => none
  | n + 1, T, l3 =>
    (if (T.1 16) ≤ l3 then
    some (1, T)
    else
    chk 200 l3 (
    chk 200 l3 (
    nm (sA T 13 l3.toNatClampNeg (T.2.1 21 l3.toNatClampNeg)) fun T2 =>
    nm (l3 + 1) fun x4 =>
    m_law_b151 N n T2 x4)))
theorem wm_law_b151 {κ : jK} (hκ : jStd κ) (N : Nat) {Γ : jG} (C : jC κ Γ cX2_law 4 RX2 (some .int)) {G : Nat → Nat}  {v : Int32} {T' : MS} : ∀ (n : Nat) (T : MS) (l3 : Int32), m_law_b151 N n T l3 = some (v, T') → J κ Γ (68, 0, 0, (fun u w' => u = some (.int v) ∧ w' = wM κ G T')) 4 (wM κ G T) 0 0 151 [some (.ref (G 0)), none, none, some (.int l3)] [] := by
  intro n
  induction n with
  | zero => intro _ _ h; cases h
  | succ n ih =>
    intro T l3 h
    rw [m_law_b151] at h
    refine j_iload_n C dX2_law_151 rfl rfl ?_
    refine j_aload_n C dX2_law_152 rfl rfl ?_
    refine jm_geti hκ C 16 (by decide) rfl q1653 dX2_law_153 ?_
    refine j_icmp_ge C dX2_law_156 (tgt := 177) (by decide) (fun c => ?_) (fun c => ?_)
    · replace h := ip c h
      refine j_iconst C (v := 1) dX2_law_177 rfl ?_
      obtain ⟨rfl, rfl⟩ := sp2 h
      exact j_iret C dX2_law_178 (Nat.zero_le _) (Nat.zero_le _) ⟨rfl, rfl⟩
    replace h := im c h
    refine j_aload_n C dX2_law_159 rfl rfl ?_
    refine jm_geta hκ C 13 (by decide) rfl q1650 dX2_law_160 ?_
    refine j_iload_n C dX2_law_163 rfl rfl ?_
    refine j_aload_n C dX2_law_164 rfl rfl ?_
    refine jm_geta hκ C 21 (by decide) rfl q1658 dX2_law_165 ?_
    refine j_iload_n C dX2_law_168 rfl rfl ?_
    obtain ⟨b1, h⟩ := chk_some h
    refine jm_iald hκ C 21 rfl b1 dX2_law_169 ?_
    obtain ⟨b3, h⟩ := chk_some h
    refine jm_iast hκ C 13 rfl b3 dX2_law_170 ?_
    refine jm_nmT h (fun T2 h => ?_)
    refine j_iincN C h dX2_law_171 rfl rfl (by decide) rfl (fun x4 h => ?_)
    refine j_goto C dX2_law_174 (tgt := 151) (by decide) ?_
    exact j_sub (ih _ _ h) ⟨rfl, ⟨rfl, trivial⟩⟩
def m_law_b99 (N : Nat) : Nat → MS → Int32 → Option (Int32 × MS)
  | 0, _, _ => none
  | n + 1, T, l3 =>
    (if (T.1 9) ≤ l3 then
    m_law_b151 N N T 0
    else
    chk 61 l3 (
    chk 60 l3 (
    nm (sA T 10 l3.toNatClampNeg (T.2.1 18 l3.toNatClampNeg)) fun T2 =>
    chk 61 l3 (
    chk 60 l3 (
    nm (sA T2 11 l3.toNatClampNeg (T2.2.1 19 l3.toNatClampNeg)) fun T5 =>
    chk 61 l3 (
    chk 60 l3 (
    nm (sA T5 12 l3.toNatClampNeg (T5.2.1 20 l3.toNatClampNeg)) fun T8 =>
    nm (l3 + 1) fun x10 =>
    m_law_b99 N n T8 x10)))))))
theorem wm_law_b99 {κ : jK} (hκ : jStd κ) (N : Nat) {Γ : jG} (C : jC κ Γ cX2_law 4 RX2 (some .int)) {G : Nat → Nat}  {v : Int32} {T' : MS} : ∀ (n : Nat) (T : MS) (l3 : Int32), m_law_b99 N n T l3 = some (v, T') → J κ Γ (68, 0, 0, (fun u w' => u = some (.int v) ∧ w' = wM κ G T')) 4 (wM κ G T) 0 0 99 [some (.ref (G 0)), none, none, some (.int l3)] [] := by
  intro n
  induction n with
  | zero => intro _ _ h; cases h
  | succ n ih =>
    intro T l3 h
    rw [m_law_b99] at h
    refine j_iload_n C dX2_law_99 rfl rfl ?_
    refine j_aload_n C dX2_law_100 rfl rfl ?_
    refine jm_geti hκ C 9 (by decide) rfl q1646 dX2_law_101 ?_
    refine j_icmp_ge C dX2_law_104 (tgt := 149) (by decide) (fun c => ?_) (fun c => ?_)
    · replace h := ip c h
      refine j_iconst C (v := 0) dX2_law_149 rfl ?_
      refine j_istore_n C dX2_law_150 rfl (by decide) rfl ?_
      exact j_sub (wm_law_b151 hκ N C N _ _ h) ⟨rfl, ⟨rfl, trivial⟩⟩
    replace h := im c h
    refine j_aload_n C dX2_law_107 rfl rfl ?_
    refine jm_geta hκ C 10 (by decide) rfl q1647 dX2_law_108 ?_
    refine j_iload_n C dX2_law_111 rfl rfl ?_
    refine j_aload_n C dX2_law_112 rfl rfl ?_
    refine jm_geta hκ C 18 (by decide) rfl q1655 dX2_law_113 ?_
    refine j_iload_n C dX2_law_116 rfl rfl ?_
    obtain ⟨b1, h⟩ := chk_some h
    refine jm_iald hκ C 18 rfl b1 dX2_law_117 ?_
    obtain ⟨b3, h⟩ := chk_some h
    refine jm_iast hκ C 10 rfl b3 dX2_law_118 ?_
    refine jm_nmT h (fun T2 h => ?_)
    refine j_aload_n C dX2_law_119 rfl rfl ?_
    refine jm_geta hκ C 11 (by decide) rfl q1648 dX2_law_120 ?_
    refine j_iload_n C dX2_law_123 rfl rfl ?_
    refine j_aload_n C dX2_law_124 rfl rfl ?_
    refine jm_geta hκ C 19 (by decide) rfl q1656 dX2_law_125 ?_
    refine j_iload_n C dX2_law_128 rfl rfl ?_
    obtain ⟨b4, h⟩ := chk_some h
    refine jm_iald hκ C 19 rfl b4 dX2_law_129 ?_
    obtain ⟨b6, h⟩ := chk_some h
    refine jm_iast hκ C 11 rfl b6 dX2_law_130 ?_
    refine jm_nmT h (fun T5 h => ?_)
    refine j_aload_n C dX2_law_131 rfl rfl ?_
    refine jm_geta hκ C 12 (by decide) rfl q1649 dX2_law_132 ?_
    refine j_iload_n C dX2_law_135 rfl rfl ?_
    refine j_aload_n C dX2_law_136 rfl rfl ?_
    refine jm_geta hκ C 20 (by decide) rfl q1657 dX2_law_137 ?_
    refine j_iload_n C dX2_law_140 rfl rfl ?_
    obtain ⟨b7, h⟩ := chk_some h
    refine jm_iald hκ C 20 rfl b7 dX2_law_141 ?_
    obtain ⟨b9, h⟩ := chk_some h
    refine jm_iast hκ C 12 rfl b9 dX2_law_142 ?_
    refine jm_nmT h (fun T8 h => ?_)
    refine j_iincN C h dX2_law_143 rfl rfl (by decide) rfl (fun x10 h => ?_)
    refine j_goto C dX2_law_146 (tgt := 99) (by decide) ?_
    exact j_sub (ih _ _ h) ⟨rfl, ⟨rfl, trivial⟩⟩
def m_law_b66 (N : Nat) (T : MS) (s1 : Int32) : Option (Int32 × MS) :=
  nm (sI T 6 0) fun T1 =>
  (if s1 = 0 then
  some (((-100) - (T1.1 14)), T1)
  else
  nm (sI T1 8 1) fun T2 =>
  nm (sI T2 9 (T2.1 17)) fun T3 =>
  m_law_b99 N N T3 0)
theorem wm_law_b66 {κ : jK} (hκ : jStd κ) (N : Nat) {Γ : jG} (C : jC κ Γ cX2_law 4 RX2 (some .int)) {G : Nat → Nat}  {v : Int32} {T' : MS} : ∀ (T : MS) (s1 : Int32), m_law_b66 N T s1 = some (v, T') → J κ Γ (68, 0, 0, (fun u w' => u = some (.int v) ∧ w' = wM κ G T')) 4 (wM κ G T) 0 0 66 [some (.ref (G 0)), none, none, none] [.int s1] := by
  intro T s1 h
  rw [m_law_b66] at h
  refine j_istore_n C dX2_law_66 rfl (by decide) rfl ?_
  refine j_aload_n C dX2_law_67 rfl rfl ?_
  refine j_iconst C (v := 0) dX2_law_68 rfl ?_
  refine jm_puti hκ C 6 (by decide) rfl rfl rfl q1643 dX2_law_69 ?_
  refine jm_nmT h (fun T1 h => ?_)
  refine j_iload_n C dX2_law_72 rfl rfl ?_
  refine j_if_ne C dX2_law_73 (tgt := 84) (by decide) (fun c => ?_) (fun c => ?_)
  · replace h := im c h
    refine j_aload_n C dX2_law_84 rfl rfl ?_
    refine j_iconst C (v := 1) dX2_law_85 rfl ?_
    refine jm_putz hκ C 8 (by decide) rfl rfl rfl rfl rfl q1645 dX2_law_86 ?_
    refine jm_nmT h (fun T2 h => ?_)
    refine j_aload_n C dX2_law_89 rfl rfl ?_
    refine j_aload_n C dX2_law_90 rfl rfl ?_
    refine jm_geti hκ C 17 (by decide) rfl q1654 dX2_law_91 ?_
    refine jm_puti hκ C 9 (by decide) rfl rfl rfl q1646 dX2_law_94 ?_
    refine jm_nmT h (fun T3 h => ?_)
    refine j_iconst C (v := 0) dX2_law_97 rfl ?_
    refine j_istore_n C dX2_law_98 rfl (by decide) rfl ?_
    exact j_sub (wm_law_b99 hκ N C N _ _ h) ⟨rfl, ⟨rfl, trivial⟩⟩
  replace h := ip c h
  refine j_bipush C (v := (-100)) dX2_law_76 rfl ?_
  refine j_aload_n C dX2_law_78 rfl rfl ?_
  refine jm_geti hκ C 14 (by decide) rfl q1651 dX2_law_79 ?_
  refine j_isub C dX2_law_82 ?_
  obtain ⟨rfl, rfl⟩ := sp2 h
  exact j_iret C dX2_law_83 (Nat.zero_le _) (Nat.zero_le _) ⟨rfl, rfl⟩
def m_law_b46 (N : Nat) (l1 : Int32) (T : MS) : Option (Int32 × MS) :=
  (if l1 = 0 then
  m_law_b66 N T 0
  else
  (if (T.1 14) = (T.1 6) then
  m_law_b66 N T 1
  else
  m_law_b66 N T 0))
theorem wm_law_b46 {κ : jK} (hκ : jStd κ) (N : Nat) {Γ : jG} (C : jC κ Γ cX2_law 4 RX2 (some .int)) {G : Nat → Nat} (l1 : Int32) {v : Int32} {T' : MS} : ∀ (T : MS), m_law_b46 N l1 T = some (v, T') → J κ Γ (68, 0, 0, (fun u w' => u = some (.int v) ∧ w' = wM κ G T')) 4 (wM κ G T) 0 0 46 [some (.ref (G 0)), some (.int l1), none, none] [] := by
  intro T h
  rw [m_law_b46] at h
  refine j_iload_n C dX2_law_46 rfl rfl ?_
  refine j_if_eq C dX2_law_47 (tgt := 65) (by decide) (fun c => ?_) (fun c => ?_)
  · replace h := ip c h
    refine j_iconst C (v := 0) dX2_law_65 rfl ?_
    exact j_sub (wm_law_b66 hκ N C _ _ h) ⟨rfl, trivial⟩
  replace h := im c h
  refine j_aload_n C dX2_law_50 rfl rfl ?_
  refine jm_geti hκ C 14 (by decide) rfl q1651 dX2_law_51 ?_
  refine j_aload_n C dX2_law_54 rfl rfl ?_
  refine jm_geti hκ C 6 (by decide) rfl q1643 dX2_law_55 ?_
  refine j_icmp_ne C dX2_law_58 (tgt := 65) (by decide) (fun c => ?_) (fun c => ?_)
  · replace h := im c h
    refine j_iconst C (v := 0) dX2_law_65 rfl ?_
    exact j_sub (wm_law_b66 hκ N C _ _ h) ⟨rfl, trivial⟩
  replace h := ip c h
  refine j_iconst C (v := 1) dX2_law_61 rfl ?_
  refine j_goto C dX2_law_62 (tgt := 66) (by decide) ?_
  exact j_sub (wm_law_b66 hκ N C _ _ h) ⟨rfl, trivial⟩
def m_law_b25 (N : Nat) : Nat → MS → Int32 → Option (Int32 × MS)
  | 0, _, _ => none
  | n + 1, T, l1 =>
    (if l1 = 0 then
    m_law_b46 N l1 T
    else
    b2 (m_is T 59) fun v2 T3 =>
    (if (b2i v2) = 0 then
    m_law_b46 N l1 T3
    else
    b2 (m_isLine N T3) fun v5 T6 =>
    m_law_b25 N n T6 (b2i v5)))
theorem wm_law_b25 {κ : jK} (hκ : jStd κ) (N : Nat) {Γ : jG} (C : jC κ Γ cX2_law 4 RX2 (some .int)) {G : Nat → Nat}  {v : Int32} {T' : MS} : ∀ (n : Nat) (T : MS) (l1 : Int32), m_law_b25 N n T l1 = some (v, T') → J κ Γ (68, 0, 0, (fun u w' => u = some (.int v) ∧ w' = wM κ G T')) 4 (wM κ G T) 0 0 25 [some (.ref (G 0)), some (.int l1), none, none] [] := by
  intro n
  induction n with
  | zero => intro _ _ h; cases h
  | succ n ih =>
    intro T l1 h
    rw [m_law_b25] at h
    refine j_iload_n C dX2_law_25 rfl rfl ?_
    refine j_if_eq C dX2_law_26 (tgt := 46) (by decide) (fun c => ?_) (fun c => ?_)
    · replace h := ip c h
      exact j_sub (wm_law_b46 hκ N C _ _ h) ⟨rfl, ⟨rfl, trivial⟩⟩
    replace h := im c h
    refine j_aload_n C dX2_law_29 rfl rfl ?_
    refine j_bipush C (v := 59) dX2_law_30 rfl ?_
    obtain ⟨v2, T3, e1, h⟩ := ob2 h
    refine jm_Vi hκ C (mt_m_is hκ G e1) hG_m_is hy_m_is rfl rfl dX2_law_32 (jfit.of (Nat.le_of_ble_eq_true rfl) (by decide) (Nat.zero_le _) (Nat.zero_le _) (Nat.le_of_ble_eq_true rfl)) rfl ?_
    refine j_if_eq C dX2_law_35 (tgt := 46) (by decide) (fun c => ?_) (fun c => ?_)
    · replace h := ip c h
      exact j_sub (wm_law_b46 hκ N C _ _ h) ⟨rfl, ⟨rfl, trivial⟩⟩
    replace h := im c h
    refine j_aload_n C dX2_law_38 rfl rfl ?_
    obtain ⟨v5, T6, e4, h⟩ := ob2 h
    refine jm_Vi hκ C (mt_m_isLine hκ N G e4) hG_m_isLine hy_m_isLine rfl rfl dX2_law_39 (jfit.of (Nat.le_of_ble_eq_true rfl) (by decide) (Nat.zero_le _) (Nat.zero_le _) (Nat.le_of_ble_eq_true rfl)) rfl ?_
    refine j_istore_n C dX2_law_42 rfl (by decide) rfl ?_
    refine j_goto C dX2_law_43 (tgt := 25) (by decide) ?_
    exact j_sub (ih _ _ h) ⟨rfl, ⟨rfl, trivial⟩⟩
def m_law (N : Nat) (T : MS) : Option (Int32 × MS) :=
  nm (sI T 14 0) fun T1 =>
  nm (sI T1 15 0) fun T2 =>
  nm (sI T2 16 0) fun T3 =>
  nm (sI T3 17 0) fun T4 =>
  b2 (m_isLine N T4) fun v6 T7 =>
  m_law_b25 N N T7 (b2i v6)
theorem mt_m_law {κ : jK} (hκ : jStd κ) (N : Nat) (G : Nat → Nat) {T : MS} {v : Int32} {T' : MS} (h : m_law N T = some (v, T')) : jM κ yX2_law (ws_ yX2_law cX2_law 4 (some .int)) 68 0 0 [.ref (G 0)] (wM κ G T) (fun u w' => u = some (.int v) ∧ w' = wM κ G T') := by
  rw [m_law] at h
  refine jM.of (by decide) rfl (Nat.le_of_ble_eq_true rfl) fun Γ C _ => ?_
  show J κ Γ (68, 0, 0, (fun u w' => u = some (.int v) ∧ w' = wM κ G T')) 4 (wM κ G T) 0 0 0 [some (.ref (G 0)), none, none, none] []
  refine j_aload_n C dX2_law_0 rfl rfl ?_
  refine j_iconst C (v := 0) dX2_law_1 rfl ?_
  refine jm_puti hκ C 14 (by decide) rfl rfl rfl q1651 dX2_law_2 ?_
  refine jm_nmT h (fun T1 h => ?_)
  refine j_aload_n C dX2_law_5 rfl rfl ?_
  refine j_iconst C (v := 0) dX2_law_6 rfl ?_
  refine jm_puti hκ C 15 (by decide) rfl rfl rfl q1652 dX2_law_7 ?_
  refine jm_nmT h (fun T2 h => ?_)
  refine j_aload_n C dX2_law_10 rfl rfl ?_
  refine j_iconst C (v := 0) dX2_law_11 rfl ?_
  refine jm_puti hκ C 16 (by decide) rfl rfl rfl q1653 dX2_law_12 ?_
  refine jm_nmT h (fun T3 h => ?_)
  refine j_aload_n C dX2_law_15 rfl rfl ?_
  refine j_iconst C (v := 0) dX2_law_16 rfl ?_
  refine jm_puti hκ C 17 (by decide) rfl rfl rfl q1654 dX2_law_17 ?_
  refine jm_nmT h (fun T4 h => ?_)
  refine j_aload_n C dX2_law_20 rfl rfl ?_
  obtain ⟨v6, T7, e5, h⟩ := ob2 h
  refine jm_Vi hκ C (mt_m_isLine hκ N G e5) hG_m_isLine hy_m_isLine rfl rfl dX2_law_21 (jfit.of (Nat.le_of_ble_eq_true rfl) (by decide) (Nat.zero_le _) (Nat.zero_le _) (Nat.le_of_ble_eq_true rfl)) rfl ?_
  refine j_istore_n C dX2_law_24 rfl (by decide) rfl ?_
  exact j_sub (wm_law_b25 hκ N C N _ _ h) ⟨rfl, ⟨rfl, trivial⟩⟩
/-! noRow -/
def m_noRow (T : MS) (p1 : Int32) (p2 : Int32) : Option Int32 :=
  chk 6 p1 (
  (if (T.2.1 41 p1.toNatClampNeg) = (-1) then
  some (-11)
  else
  chk 6 p1 (
  (if (T.2.1 41 p1.toNatClampNeg) = p2 then
  some 0
  else
  some (-12)))))
theorem mt_m_noRow {κ : jK} (hκ : jStd κ) (G : Nat → Nat) {T : MS} {p1 : Int32} {p2 : Int32} {v : Int32} (h : m_noRow T p1 p2 = some v) : jM κ yX2_noRow (ws_ yX2_noRow cX2_noRow 3 (some .int)) 0 0 0 [.ref (G 0), .int p1, .int p2] (wM κ G T) (fun u w' => u = some (.int v) ∧ w' = wM κ G T) := by
  rw [m_noRow] at h
  refine jM.of (by decide) rfl (Nat.le_of_ble_eq_true rfl) fun Γ C _ => ?_
  show J κ Γ (0, 0, 0, (fun u w' => u = some (.int v) ∧ w' = wM κ G T)) 3 (wM κ G T) 0 0 0 [some (.ref (G 0)), some (.int p1), some (.int p2)] []
  refine j_aload_n C dX2_noRow_0 rfl rfl ?_
  refine jm_geta hκ C 41 (by decide) rfl q1678 dX2_noRow_1 ?_
  refine j_iload_n C dX2_noRow_4 rfl rfl ?_
  obtain ⟨b1, h⟩ := chk_some h
  refine jm_iald hκ C 41 rfl b1 dX2_noRow_5 ?_
  refine j_iconst C (v := (-1)) dX2_noRow_6 rfl ?_
  refine j_icmp_ne C dX2_noRow_7 (tgt := 15) (by decide) (fun c => ?_) (fun c => ?_)
  · replace h := im c h
    refine j_aload_n C dX2_noRow_15 rfl rfl ?_
    refine jm_geta hκ C 41 (by decide) rfl q1678 dX2_noRow_16 ?_
    refine j_iload_n C dX2_noRow_19 rfl rfl ?_
    obtain ⟨b2, h⟩ := chk_some h
    refine jm_iald hκ C 41 rfl b2 dX2_noRow_20 ?_
    refine j_iload_n C dX2_noRow_21 rfl rfl ?_
    refine j_icmp_eq C dX2_noRow_22 (tgt := 30) (by decide) (fun c => ?_) (fun c => ?_)
    · replace h := ip c h
      refine j_iconst C (v := 0) dX2_noRow_30 rfl ?_
      obtain rfl := sp1 h
      exact j_iret C dX2_noRow_31 (Nat.zero_le _) (Nat.zero_le _) ⟨rfl, rfl⟩
    replace h := im c h
    refine j_bipush C (v := (-12)) dX2_noRow_25 rfl ?_
    refine j_goto C dX2_noRow_27 (tgt := 31) (by decide) ?_
    obtain rfl := sp1 h
    exact j_iret C dX2_noRow_31 (Nat.zero_le _) (Nat.zero_le _) ⟨rfl, rfl⟩
  replace h := ip c h
  refine j_bipush C (v := (-11)) dX2_noRow_10 rfl ?_
  refine j_goto C dX2_noRow_12 (tgt := 31) (by decide) ?_
  obtain rfl := sp1 h
  exact j_iret C dX2_noRow_31 (Nat.zero_le _) (Nat.zero_le _) ⟨rfl, rfl⟩
/-! xOf -/
def m_xOf (T : MS) (p1 : Int32) : Option Int32 :=
  (if p1 = (-1) then
  some (T.2.1 5 0)
  else
  chk 9 p1 (
  some (T.2.1 1 p1.toNatClampNeg)))
theorem mt_m_xOf {κ : jK} (hκ : jStd κ) (G : Nat → Nat) {T : MS} {p1 : Int32} {v : Int32} (h : m_xOf T p1 = some v) : jM κ yX2_xOf (ws_ yX2_xOf cX2_xOf 2 (some .int)) 0 0 0 [.ref (G 0), .int p1] (wM κ G T) (fun u w' => u = some (.int v) ∧ w' = wM κ G T) := by
  rw [m_xOf] at h
  refine jM.of (by decide) rfl (Nat.le_of_ble_eq_true rfl) fun Γ C _ => ?_
  show J κ Γ (0, 0, 0, (fun u w' => u = some (.int v) ∧ w' = wM κ G T)) 2 (wM κ G T) 0 0 0 [some (.ref (G 0)), some (.int p1)] []
  refine j_iload_n C dX2_xOf_0 rfl rfl ?_
  refine j_iconst C (v := (-1)) dX2_xOf_1 rfl ?_
  refine j_icmp_ne C dX2_xOf_2 (tgt := 14) (by decide) (fun c => ?_) (fun c => ?_)
  · replace h := im c h
    refine j_aload_n C dX2_xOf_14 rfl rfl ?_
    refine jm_geta hκ C 1 (by decide) rfl q1638 dX2_xOf_15 ?_
    refine j_iload_n C dX2_xOf_18 rfl rfl ?_
    obtain ⟨b1, h⟩ := chk_some h
    refine jm_iald hκ C 1 rfl b1 dX2_xOf_19 ?_
    obtain rfl := sp1 h
    exact j_iret C dX2_xOf_20 (Nat.zero_le _) (Nat.zero_le _) ⟨rfl, rfl⟩
  replace h := ip c h
  refine j_aload_n C dX2_xOf_5 rfl rfl ?_
  refine jm_geta hκ C 5 (by decide) rfl q1642 dX2_xOf_6 ?_
  refine j_iconst C (v := 0) dX2_xOf_9 rfl ?_
  refine jm_ialdK hκ C 5 0 rfl rfl (vp_k rfl) dX2_xOf_10 ?_
  refine j_goto C dX2_xOf_11 (tgt := 20) (by decide) ?_
  obtain rfl := sp1 h
  exact j_iret C dX2_xOf_20 (Nat.zero_le _) (Nat.zero_le _) ⟨rfl, rfl⟩
/-! yOf -/
def m_yOf (T : MS) (p1 : Int32) : Option Int32 :=
  (if p1 = (-1) then
  some (T.2.1 5 1)
  else
  chk 9 p1 (
  some (T.2.1 2 p1.toNatClampNeg)))
theorem mt_m_yOf {κ : jK} (hκ : jStd κ) (G : Nat → Nat) {T : MS} {p1 : Int32} {v : Int32} (h : m_yOf T p1 = some v) : jM κ yX2_yOf (ws_ yX2_yOf cX2_yOf 2 (some .int)) 0 0 0 [.ref (G 0), .int p1] (wM κ G T) (fun u w' => u = some (.int v) ∧ w' = wM κ G T) := by
  rw [m_yOf] at h
  refine jM.of (by decide) rfl (Nat.le_of_ble_eq_true rfl) fun Γ C _ => ?_
  show J κ Γ (0, 0, 0, (fun u w' => u = some (.int v) ∧ w' = wM κ G T)) 2 (wM κ G T) 0 0 0 [some (.ref (G 0)), some (.int p1)] []
  refine j_iload_n C dX2_yOf_0 rfl rfl ?_
  refine j_iconst C (v := (-1)) dX2_yOf_1 rfl ?_
  refine j_icmp_ne C dX2_yOf_2 (tgt := 14) (by decide) (fun c => ?_) (fun c => ?_)
  · replace h := im c h
    refine j_aload_n C dX2_yOf_14 rfl rfl ?_
    refine jm_geta hκ C 2 (by decide) rfl q1639 dX2_yOf_15 ?_
    refine j_iload_n C dX2_yOf_18 rfl rfl ?_
    obtain ⟨b1, h⟩ := chk_some h
    refine jm_iald hκ C 2 rfl b1 dX2_yOf_19 ?_
    obtain rfl := sp1 h
    exact j_iret C dX2_yOf_20 (Nat.zero_le _) (Nat.zero_le _) ⟨rfl, rfl⟩
  replace h := ip c h
  refine j_aload_n C dX2_yOf_5 rfl rfl ?_
  refine jm_geta hκ C 5 (by decide) rfl q1642 dX2_yOf_6 ?_
  refine j_iconst C (v := 1) dX2_yOf_9 rfl ?_
  refine jm_ialdK hκ C 5 1 rfl rfl (vp_k rfl) dX2_yOf_10 ?_
  refine j_goto C dX2_yOf_11 (tgt := 20) (by decide) ?_
  obtain rfl := sp1 h
  exact j_iret C dX2_yOf_20 (Nat.zero_le _) (Nat.zero_le _) ⟨rfl, rfl⟩
/-! apart -/
def m_apart (T : MS) (p1 : Int32) (p2 : Int32) : Option Int32 :=
  (m_xOf T p1).bind fun v2 =>
  (m_xOf T p2).bind fun v4 =>
  (m_yOf T p1).bind fun v6 =>
  (m_yOf T p2).bind fun v8 =>
  some ((jabs (v2 - v4)) + (jabs (v6 - v8)))
theorem mt_m_apart {κ : jK} (hκ : jStd κ) (G : Nat → Nat) {T : MS} {p1 : Int32} {p2 : Int32} {v : Int32} (h : m_apart T p1 p2 = some v) : jM κ yX2_apart (ws_ yX2_apart cX2_apart 3 (some .int)) 1 0 0 [.ref (G 0), .int p1, .int p2] (wM κ G T) (fun u w' => u = some (.int v) ∧ w' = wM κ G T) := by
  rw [m_apart] at h
  refine jM.of (by decide) rfl (Nat.le_of_ble_eq_true rfl) fun Γ C _ => ?_
  show J κ Γ (1, 0, 0, (fun u w' => u = some (.int v) ∧ w' = wM κ G T)) 3 (wM κ G T) 0 0 0 [some (.ref (G 0)), some (.int p1), some (.int p2)] []
  refine j_aload_n C dX2_apart_0 rfl rfl ?_
  refine j_iload_n C dX2_apart_1 rfl rfl ?_
  obtain ⟨v2, e1, h⟩ := ob h
  refine jm_Vi hκ C (mt_m_xOf hκ G e1) hG_m_xOf hy_m_xOf rfl rfl dX2_apart_2 (jfit.of (Nat.le_of_ble_eq_true rfl) (by decide) (Nat.zero_le _) (Nat.zero_le _) (Nat.le_of_ble_eq_true rfl)) rfl ?_
  refine j_aload_n C dX2_apart_5 rfl rfl ?_
  refine j_iload_n C dX2_apart_6 rfl rfl ?_
  obtain ⟨v4, e3, h⟩ := ob h
  refine jm_Vi hκ C (mt_m_xOf hκ G e3) hG_m_xOf hy_m_xOf rfl rfl dX2_apart_7 (jfit.of (Nat.le_of_ble_eq_true rfl) (by decide) (Nat.zero_le _) (Nat.zero_le _) (Nat.le_of_ble_eq_true rfl)) rfl ?_
  refine j_isub C dX2_apart_10 ?_
  refine j_mabs C dX2_apart_11 q1941 q860 q129 q861 (Nat.le_of_ble_eq_true rfl) (Nat.le_of_ble_eq_true rfl) (Nat.zero_le _) (Nat.zero_le _) ?_
  refine j_aload_n C dX2_apart_14 rfl rfl ?_
  refine j_iload_n C dX2_apart_15 rfl rfl ?_
  obtain ⟨v6, e5, h⟩ := ob h
  refine jm_Vi hκ C (mt_m_yOf hκ G e5) hG_m_yOf hy_m_yOf rfl rfl dX2_apart_16 (jfit.of (Nat.le_of_ble_eq_true rfl) (by decide) (Nat.zero_le _) (Nat.zero_le _) (Nat.le_of_ble_eq_true rfl)) rfl ?_
  refine j_aload_n C dX2_apart_19 rfl rfl ?_
  refine j_iload_n C dX2_apart_20 rfl rfl ?_
  obtain ⟨v8, e7, h⟩ := ob h
  refine jm_Vi hκ C (mt_m_yOf hκ G e7) hG_m_yOf hy_m_yOf rfl rfl dX2_apart_21 (jfit.of (Nat.le_of_ble_eq_true rfl) (by decide) (Nat.zero_le _) (Nat.zero_le _) (Nat.le_of_ble_eq_true rfl)) rfl ?_
  refine j_isub C dX2_apart_24 ?_
  refine j_mabs C dX2_apart_25 q1941 q860 q129 q861 (Nat.le_of_ble_eq_true rfl) (Nat.le_of_ble_eq_true rfl) (Nat.zero_le _) (Nat.zero_le _) ?_
  refine j_iadd C dX2_apart_28 ?_
  obtain rfl := sp1 h
  exact j_iret C dX2_apart_29 (Nat.zero_le _) (Nat.zero_le _) ⟨rfl, rfl⟩
/-! minutes -/
def m_minutes (T : MS) (p1 : Int32) (p2 : Int32) : Option Int32 :=
  (m_apart T p1 p2).bind fun v2 =>
  some (v2 * (T.2.1 5 2))
theorem mt_m_minutes {κ : jK} (hκ : jStd κ) (G : Nat → Nat) {T : MS} {p1 : Int32} {p2 : Int32} {v : Int32} (h : m_minutes T p1 p2 = some v) : jM κ yX2_minutes (ws_ yX2_minutes cX2_minutes 3 (some .int)) 2 0 0 [.ref (G 0), .int p1, .int p2] (wM κ G T) (fun u w' => u = some (.int v) ∧ w' = wM κ G T) := by
  rw [m_minutes] at h
  refine jM.of (by decide) rfl (Nat.le_of_ble_eq_true rfl) fun Γ C _ => ?_
  show J κ Γ (2, 0, 0, (fun u w' => u = some (.int v) ∧ w' = wM κ G T)) 3 (wM κ G T) 0 0 0 [some (.ref (G 0)), some (.int p1), some (.int p2)] []
  refine j_aload_n C dX2_minutes_0 rfl rfl ?_
  refine j_iload_n C dX2_minutes_1 rfl rfl ?_
  refine j_iload_n C dX2_minutes_2 rfl rfl ?_
  obtain ⟨v2, e1, h⟩ := ob h
  refine jm_Vi hκ C (mt_m_apart hκ G e1) hG_m_apart hy_m_apart rfl rfl dX2_minutes_3 (jfit.of (Nat.le_of_ble_eq_true rfl) (by decide) (Nat.zero_le _) (Nat.zero_le _) (Nat.le_of_ble_eq_true rfl)) rfl ?_
  refine j_aload_n C dX2_minutes_6 rfl rfl ?_
  refine jm_geta hκ C 5 (by decide) rfl q1642 dX2_minutes_7 ?_
  refine j_iconst C (v := 2) dX2_minutes_10 rfl ?_
  refine jm_ialdK hκ C 5 2 rfl rfl (vp_k rfl) dX2_minutes_11 ?_
  refine j_imul C dX2_minutes_12 ?_
  obtain rfl := sp1 h
  exact j_iret C dX2_minutes_13 (Nat.zero_le _) (Nat.zero_le _) ⟨rfl, rfl⟩
/-! oneRound -/
def m_oneRound_b4 (N : Nat) (T : MS) : Nat → Int32 → Int32 → Option Int32
  | 0, _, _ => none
  | n + 1, l1, l2 =>
    (if (T.1 44) ≤ l2 then
    some l1
    else
    chk 20 l2 (
    nz (T.1 44) (
    chk 20 (jrem (l2 + 1) (T.1 44)) (
    (m_minutes T (T.2.1 45 l2.toNatClampNeg) (T.2.1 45 (jrem (l2 + 1) (T.1 44)).toNatClampNeg)).bind fun v5 =>
    nm (l1 + ((T.2.1 5 3) + v5)) fun x6 =>
    nm (l2 + 1) fun x7 =>
    m_oneRound_b4 N T n x6 x7))))
theorem wm_oneRound_b4 {κ : jK} (hκ : jStd κ) (N : Nat) {Γ : jG} (C : jC κ Γ cX2_oneRound 3 RX2 (some .int)) {G : Nat → Nat} {T : MS}  {v : Int32} : ∀ (n : Nat) (l1 : Int32) (l2 : Int32), m_oneRound_b4 N T n l1 l2 = some v → J κ Γ (3, 0, 0, (fun u w' => u = some (.int v) ∧ w' = wM κ G T)) 3 (wM κ G T) 0 0 4 [some (.ref (G 0)), some (.int l1), some (.int l2)] [] := by
  intro n
  induction n with
  | zero => intro _ _ h; cases h
  | succ n ih =>
    intro l1 l2 h
    rw [m_oneRound_b4] at h
    refine j_iload_n C dX2_oneRound_4 rfl rfl ?_
    refine j_aload_n C dX2_oneRound_5 rfl rfl ?_
    refine jm_geti hκ C 44 (by decide) rfl q1681 dX2_oneRound_6 ?_
    refine j_icmp_ge C dX2_oneRound_9 (tgt := 51) (by decide) (fun c => ?_) (fun c => ?_)
    · replace h := ip c h
      refine j_iload_n C dX2_oneRound_51 rfl rfl ?_
      obtain rfl := sp1 h
      exact j_iret C dX2_oneRound_52 (Nat.zero_le _) (Nat.zero_le _) ⟨rfl, rfl⟩
    replace h := im c h
    refine j_iload_n C dX2_oneRound_12 rfl rfl ?_
    refine j_aload_n C dX2_oneRound_13 rfl rfl ?_
    refine jm_geta hκ C 5 (by decide) rfl q1642 dX2_oneRound_14 ?_
    refine j_iconst C (v := 3) dX2_oneRound_17 rfl ?_
    refine jm_ialdK hκ C 5 3 rfl rfl (vp_k rfl) dX2_oneRound_18 ?_
    refine j_aload_n C dX2_oneRound_19 rfl rfl ?_
    refine j_aload_n C dX2_oneRound_20 rfl rfl ?_
    refine jm_geta hκ C 45 (by decide) rfl q1682 dX2_oneRound_21 ?_
    refine j_iload_n C dX2_oneRound_24 rfl rfl ?_
    obtain ⟨b1, h⟩ := chk_some h
    refine jm_iald hκ C 45 rfl b1 dX2_oneRound_25 ?_
    refine j_aload_n C dX2_oneRound_26 rfl rfl ?_
    refine jm_geta hκ C 45 (by decide) rfl q1682 dX2_oneRound_27 ?_
    refine j_iload_n C dX2_oneRound_30 rfl rfl ?_
    refine j_iconst C (v := 1) dX2_oneRound_31 rfl ?_
    refine j_iadd C dX2_oneRound_32 ?_
    refine j_aload_n C dX2_oneRound_33 rfl rfl ?_
    refine jm_geti hκ C 44 (by decide) rfl q1681 dX2_oneRound_34 ?_
    obtain ⟨z2, h⟩ := nz_some h
    refine j_irem C dX2_oneRound_37 z2 ?_
    obtain ⟨b3, h⟩ := chk_some h
    refine jm_iald hκ C 45 rfl b3 dX2_oneRound_38 ?_
    obtain ⟨v5, e4, h⟩ := ob h
    refine jm_Vi hκ C (mt_m_minutes hκ G e4) hG_m_minutes hy_m_minutes rfl rfl dX2_oneRound_39 (jfit.of (Nat.le_of_ble_eq_true rfl) (by decide) (Nat.zero_le _) (Nat.zero_le _) (Nat.le_of_ble_eq_true rfl)) rfl ?_
    refine j_iadd C dX2_oneRound_42 ?_
    refine j_iadd C dX2_oneRound_43 ?_
    refine j_nmI h (fun x6 h => ?_)
    refine j_istore_n C dX2_oneRound_44 rfl (by decide) rfl ?_
    refine j_iincN C h dX2_oneRound_45 rfl rfl (by decide) rfl (fun x7 h => ?_)
    refine j_goto C dX2_oneRound_48 (tgt := 4) (by decide) ?_
    exact j_sub (ih _ _ h) ⟨rfl, ⟨rfl, ⟨rfl, trivial⟩⟩⟩
def m_oneRound (N : Nat) (T : MS) : Option Int32 :=
  m_oneRound_b4 N T N 0 0
theorem mt_m_oneRound {κ : jK} (hκ : jStd κ) (N : Nat) (G : Nat → Nat) {T : MS} {v : Int32} (h : m_oneRound N T = some v) : jM κ yX2_oneRound (ws_ yX2_oneRound cX2_oneRound 3 (some .int)) 3 0 0 [.ref (G 0)] (wM κ G T) (fun u w' => u = some (.int v) ∧ w' = wM κ G T) := by
  rw [m_oneRound] at h
  refine jM.of (by decide) rfl (Nat.le_of_ble_eq_true rfl) fun Γ C _ => ?_
  show J κ Γ (3, 0, 0, (fun u w' => u = some (.int v) ∧ w' = wM κ G T)) 3 (wM κ G T) 0 0 0 [some (.ref (G 0)), none, none] []
  refine j_iconst C (v := 0) dX2_oneRound_0 rfl ?_
  refine j_istore_n C dX2_oneRound_1 rfl (by decide) rfl ?_
  refine j_iconst C (v := 0) dX2_oneRound_2 rfl ?_
  refine j_istore_n C dX2_oneRound_3 rfl (by decide) rfl ?_
  exact j_sub (wm_oneRound_b4 hκ N C N _ _ h) ⟨rfl, ⟨rfl, ⟨rfl, trivial⟩⟩⟩
/-! toldAt -/
def m_toldAt (T : MS) (p1 : Int32) (p2 : Int32) : Option Int32 :=
  chk 360 ((60 * p1) + p2) (
  some ((T.2.2 ((60 * p1) + p2).toNatClampNeg).toInt32))
theorem mt_m_toldAt {κ : jK} (hκ : jStd κ) (G : Nat → Nat) {T : MS} {p1 : Int32} {p2 : Int32} {v : Int32} (h : m_toldAt T p1 p2 = some v) : jM κ yX2_toldAt (ws_ yX2_toldAt cX2_toldAt 3 (some .int)) 0 0 0 [.ref (G 0), .int p1, .int p2] (wM κ G T) (fun u w' => u = some (.int v) ∧ w' = wM κ G T) := by
  rw [m_toldAt] at h
  refine jM.of (by decide) rfl (Nat.le_of_ble_eq_true rfl) fun Γ C _ => ?_
  show J κ Γ (0, 0, 0, (fun u w' => u = some (.int v) ∧ w' = wM κ G T)) 3 (wM κ G T) 0 0 0 [some (.ref (G 0)), some (.int p1), some (.int p2)] []
  refine j_aload_n C dX2_toldAt_0 rfl rfl ?_
  refine jm_geta hκ C 43 (by decide) rfl q1680 dX2_toldAt_1 ?_
  refine j_bipush C (v := 60) dX2_toldAt_4 rfl ?_
  refine j_iload_n C dX2_toldAt_6 rfl rfl ?_
  refine j_imul C dX2_toldAt_7 ?_
  refine j_iload_n C dX2_toldAt_8 rfl rfl ?_
  refine j_iadd C dX2_toldAt_9 ?_
  obtain ⟨b1, h⟩ := chk_some h
  refine jm_lald hκ C 43 rfl b1 dX2_toldAt_10 ?_
  refine j_l2i C dX2_toldAt_11 ?_
  obtain rfl := sp1 h
  exact j_iret C dX2_toldAt_12 (Nat.zero_le _) (Nat.zero_le _) ⟨rfl, rfl⟩
/-! reads -/
def m_reads_b5 (N : Nat) (l1 : Int32) : Nat → MS → Option MS
  | 0, _ => none
  | n + 1, T =>
    (if 20 ≤ (T.1 44) then
    some T
    else
    chk 6 l1 (
    (if (T.2.1 42 l1.toNatClampNeg) ≤ (T.1 44) then
    some T
    else
    chk 360 ((60 * l1) + (T.1 44)) (
    (m_isPost T (T.2.2 ((60 * l1) + (T.1 44)).toNatClampNeg)).bind fun v4 =>
    (if (b2i v4) = 0 then
    some T
    else
    (m_toldAt T l1 (T.1 44)).bind fun v6 =>
    chk 20 (T.1 44) (
    nm (sA T 45 (T.1 44).toNatClampNeg v6) fun T7 =>
    nm (sI T7 44 ((T7.1 44) + 1)) fun T9 =>
    m_reads_b5 N l1 n T9))))))
theorem wm_reads_b5 {κ : jK} (hκ : jStd κ) (N : Nat) {Γ : jG} (C : jC κ Γ cX2_reads 2 RX2 none) {G : Nat → Nat} (l1 : Int32) {T' : MS} : ∀ (n : Nat) (T : MS), m_reads_b5 N l1 n T = some T' → J κ Γ (1, 0, 0, (fun u w' => u = none ∧ w' = wM κ G T')) 2 (wM κ G T) 0 0 5 [some (.ref (G 0)), some (.int l1)] [] := by
  intro n
  induction n with
  | zero => intro _ h; cases h
  | succ n ih =>
    intro T h
    rw [m_reads_b5] at h
    refine j_aload_n C dX2_reads_5 rfl rfl ?_
    refine jm_geti hκ C 44 (by decide) rfl q1681 dX2_reads_6 ?_
    refine j_bipush C (v := 20) dX2_reads_9 rfl ?_
    refine j_icmp_ge C dX2_reads_11 (tgt := 79) (by decide) (fun c => ?_) (fun c => ?_)
    · replace h := ip c h
      obtain rfl := sp1 h
      exact j_vret C dX2_reads_79 (Nat.zero_le _) (Nat.zero_le _) ⟨rfl, rfl⟩
    replace h := im c h
    refine j_aload_n C dX2_reads_14 rfl rfl ?_
    refine jm_geti hκ C 44 (by decide) rfl q1681 dX2_reads_15 ?_
    refine j_aload_n C dX2_reads_18 rfl rfl ?_
    refine jm_geta hκ C 42 (by decide) rfl q1679 dX2_reads_19 ?_
    refine j_iload_n C dX2_reads_22 rfl rfl ?_
    obtain ⟨b1, h⟩ := chk_some h
    refine jm_iald hκ C 42 rfl b1 dX2_reads_23 ?_
    refine j_icmp_ge C dX2_reads_24 (tgt := 79) (by decide) (fun c => ?_) (fun c => ?_)
    · replace h := ip c h
      obtain rfl := sp1 h
      exact j_vret C dX2_reads_79 (Nat.zero_le _) (Nat.zero_le _) ⟨rfl, rfl⟩
    replace h := im c h
    refine j_aload_n C dX2_reads_27 rfl rfl ?_
    refine j_aload_n C dX2_reads_28 rfl rfl ?_
    refine jm_geta hκ C 43 (by decide) rfl q1680 dX2_reads_29 ?_
    refine j_bipush C (v := 60) dX2_reads_32 rfl ?_
    refine j_iload_n C dX2_reads_34 rfl rfl ?_
    refine j_imul C dX2_reads_35 ?_
    refine j_aload_n C dX2_reads_36 rfl rfl ?_
    refine jm_geti hκ C 44 (by decide) rfl q1681 dX2_reads_37 ?_
    refine j_iadd C dX2_reads_40 ?_
    obtain ⟨b2, h⟩ := chk_some h
    refine jm_lald hκ C 43 rfl b2 dX2_reads_41 ?_
    obtain ⟨v4, e3, h⟩ := ob h
    refine jm_Vi hκ C (mt_m_isPost hκ G e3) hG_m_isPost hy_m_isPost rfl rfl dX2_reads_42 (jfit.of (Nat.le_of_ble_eq_true rfl) (by decide) (Nat.zero_le _) (Nat.zero_le _) (Nat.le_of_ble_eq_true rfl)) rfl ?_
    refine j_if_eq C dX2_reads_45 (tgt := 79) (by decide) (fun c => ?_) (fun c => ?_)
    · replace h := ip c h
      obtain rfl := sp1 h
      exact j_vret C dX2_reads_79 (Nat.zero_le _) (Nat.zero_le _) ⟨rfl, rfl⟩
    replace h := im c h
    refine j_aload_n C dX2_reads_48 rfl rfl ?_
    refine jm_geta hκ C 45 (by decide) rfl q1682 dX2_reads_49 ?_
    refine j_aload_n C dX2_reads_52 rfl rfl ?_
    refine jm_geti hκ C 44 (by decide) rfl q1681 dX2_reads_53 ?_
    refine j_aload_n C dX2_reads_56 rfl rfl ?_
    refine j_iload_n C dX2_reads_57 rfl rfl ?_
    refine j_aload_n C dX2_reads_58 rfl rfl ?_
    refine jm_geti hκ C 44 (by decide) rfl q1681 dX2_reads_59 ?_
    obtain ⟨v6, e5, h⟩ := ob h
    refine jm_Vi hκ C (mt_m_toldAt hκ G e5) hG_m_toldAt hy_m_toldAt rfl rfl dX2_reads_62 (jfit.of (Nat.le_of_ble_eq_true rfl) (by decide) (Nat.zero_le _) (Nat.zero_le _) (Nat.le_of_ble_eq_true rfl)) rfl ?_
    obtain ⟨b8, h⟩ := chk_some h
    refine jm_iast hκ C 45 rfl b8 dX2_reads_65 ?_
    refine jm_nmT h (fun T7 h => ?_)
    refine j_aload_n C dX2_reads_66 rfl rfl ?_
    refine j_dup C dX2_reads_67 rfl ?_
    refine jm_geti hκ C 44 (by decide) rfl q1681 dX2_reads_68 ?_
    refine j_iconst C (v := 1) dX2_reads_71 rfl ?_
    refine j_iadd C dX2_reads_72 ?_
    refine jm_puti hκ C 44 (by decide) rfl rfl rfl q1681 dX2_reads_73 ?_
    refine jm_nmT h (fun T9 h => ?_)
    refine j_goto C dX2_reads_76 (tgt := 5) (by decide) ?_
    exact j_sub (ih _ h) ⟨rfl, ⟨rfl, trivial⟩⟩
def m_reads (N : Nat) (T : MS) (p1 : Int32) : Option MS :=
  nm (sI T 44 0) fun T1 =>
  m_reads_b5 N p1 N T1
theorem mt_m_reads {κ : jK} (hκ : jStd κ) (N : Nat) (G : Nat → Nat) {T : MS} {p1 : Int32} {T' : MS} (h : m_reads N T p1 = some T') : jM κ yX2_reads (ws_ yX2_reads cX2_reads 2 none) 1 0 0 [.ref (G 0), .int p1] (wM κ G T) (fun u w' => u = none ∧ w' = wM κ G T') := by
  rw [m_reads] at h
  refine jM.of (by decide) rfl (Nat.le_of_ble_eq_true rfl) fun Γ C _ => ?_
  show J κ Γ (1, 0, 0, (fun u w' => u = none ∧ w' = wM κ G T')) 2 (wM κ G T) 0 0 0 [some (.ref (G 0)), some (.int p1)] []
  refine j_aload_n C dX2_reads_0 rfl rfl ?_
  refine j_iconst C (v := 0) dX2_reads_1 rfl ?_
  refine jm_puti hκ C 44 (by decide) rfl rfl rfl q1681 dX2_reads_2 ?_
  refine jm_nmT h (fun T1 h => ?_)
  exact j_sub (wm_reads_b5 hκ N C _ N _ h) ⟨rfl, ⟨rfl, trivial⟩⟩
/-! round -/
def m_round (N : Nat) (T : MS) (p1 : Int32) (p2 : Int32) : Option (Int32 × MS) :=
  (m_isShelf p1).bind fun v2 =>
  (if (b2i v2) = 0 then
  some ((-1), T)
  else
  (m_within p2 0 1).bind fun v4 =>
  (if (b2i v4) = 0 then
  some ((-1), T)
  else
  (m_noRow T p1 0).bind fun v6 =>
  (if 0 ≤ v6 then
  (m_reads N T p1).bind fun T9 =>
  (if p2 = 0 then
  some (T9.1 44, T9)
  else
  (m_oneRound N T9).bind fun v11 =>
  some (v11, T9))
  else
  some (v6, T))))
theorem mt_m_round {κ : jK} (hκ : jStd κ) (N : Nat) (G : Nat → Nat) {T : MS} {p1 : Int32} {p2 : Int32} {v : Int32} {T' : MS} (h : m_round N T p1 p2 = some (v, T')) : jM κ yX2_round (ws_ yX2_round cX2_round 4 (some .int)) 4 0 0 [.ref (G 0), .int p1, .int p2] (wM κ G T) (fun u w' => u = some (.int v) ∧ w' = wM κ G T') := by
  rw [m_round] at h
  refine jM.of (by decide) rfl (Nat.le_of_ble_eq_true rfl) fun Γ C _ => ?_
  show J κ Γ (4, 0, 0, (fun u w' => u = some (.int v) ∧ w' = wM κ G T')) 4 (wM κ G T) 0 0 0 [some (.ref (G 0)), some (.int p1), some (.int p2), none] []
  refine j_iload_n C dX2_round_0 rfl rfl ?_
  obtain ⟨v2, e1, h⟩ := ob h
  refine j_Si hκ.1 C (mt_m_isShelf hκ e1) hG_m_isShelf hy_m_isShelf rfl dX2_round_1 (jfit.of (Nat.le_of_ble_eq_true rfl) (by decide) (Nat.zero_le _) (Nat.zero_le _) (Nat.le_of_ble_eq_true rfl)) rfl ?_
  refine j_if_eq C dX2_round_4 (tgt := 16) (by decide) (fun c => ?_) (fun c => ?_)
  · replace h := ip c h
    refine j_iconst C (v := (-1)) dX2_round_16 rfl ?_
    obtain ⟨rfl, rfl⟩ := sp2 h
    exact j_iret C dX2_round_17 (Nat.zero_le _) (Nat.zero_le _) ⟨rfl, rfl⟩
  replace h := im c h
  refine j_iload_n C dX2_round_7 rfl rfl ?_
  refine j_iconst C (v := 0) dX2_round_8 rfl ?_
  refine j_iconst C (v := 1) dX2_round_9 rfl ?_
  obtain ⟨v4, e3, h⟩ := ob h
  refine j_Si hκ.1 C (mt_m_within hκ e3) hG_m_within hy_m_within rfl dX2_round_10 (jfit.of (Nat.le_of_ble_eq_true rfl) (by decide) (Nat.zero_le _) (Nat.zero_le _) (Nat.le_of_ble_eq_true rfl)) rfl ?_
  refine j_if_ne C dX2_round_13 (tgt := 18) (by decide) (fun c => ?_) (fun c => ?_)
  · replace h := im c h
    refine j_aload_n C dX2_round_18 rfl rfl ?_
    refine j_iload_n C dX2_round_19 rfl rfl ?_
    refine j_iconst C (v := 0) dX2_round_20 rfl ?_
    obtain ⟨v6, e5, h⟩ := ob h
    refine jm_Vi hκ C (mt_m_noRow hκ G e5) hG_m_noRow hy_m_noRow rfl rfl dX2_round_21 (jfit.of (Nat.le_of_ble_eq_true rfl) (by decide) (Nat.zero_le _) (Nat.zero_le _) (Nat.le_of_ble_eq_true rfl)) rfl ?_
    refine j_istore_n C dX2_round_24 rfl (by decide) rfl ?_
    refine j_iload_n C dX2_round_25 rfl rfl ?_
    refine j_if_ge C dX2_round_26 (tgt := 31) (by decide) (fun c => ?_) (fun c => ?_)
    · replace h := ip c h
      refine j_aload_n C dX2_round_31 rfl rfl ?_
      refine j_iload_n C dX2_round_32 rfl rfl ?_
      obtain ⟨T9, e7, h⟩ := ob h
      refine jm_Vv hκ C (mt_m_reads hκ N G e7) hG_m_reads hy_m_reads rfl rfl dX2_round_33 (jfit.of (Nat.le_of_ble_eq_true rfl) (by decide) (Nat.zero_le _) (Nat.zero_le _) (Nat.le_of_ble_eq_true rfl)) rfl ?_
      refine j_iload_n C dX2_round_36 rfl rfl ?_
      refine j_if_ne C dX2_round_37 (tgt := 47) (by decide) (fun c => ?_) (fun c => ?_)
      · replace h := im c h
        refine j_aload_n C dX2_round_47 rfl rfl ?_
        obtain ⟨v11, e10, h⟩ := ob h
        refine jm_Vi hκ C (mt_m_oneRound hκ N G e10) hG_m_oneRound hy_m_oneRound rfl rfl dX2_round_48 (jfit.of (Nat.le_of_ble_eq_true rfl) (by decide) (Nat.zero_le _) (Nat.zero_le _) (Nat.le_of_ble_eq_true rfl)) rfl ?_
        obtain ⟨rfl, rfl⟩ := sp2 h
        exact j_iret C dX2_round_51 (Nat.zero_le _) (Nat.zero_le _) ⟨rfl, rfl⟩
      replace h := ip c h
      refine j_aload_n C dX2_round_40 rfl rfl ?_
      refine jm_geti hκ C 44 (by decide) rfl q1681 dX2_round_41 ?_
      refine j_goto C dX2_round_44 (tgt := 51) (by decide) ?_
      obtain ⟨rfl, rfl⟩ := sp2 h
      exact j_iret C dX2_round_51 (Nat.zero_le _) (Nat.zero_le _) ⟨rfl, rfl⟩
    replace h := im c h
    refine j_iload_n C dX2_round_29 rfl rfl ?_
    obtain ⟨rfl, rfl⟩ := sp2 h
    exact j_iret C dX2_round_30 (Nat.zero_le _) (Nat.zero_le _) ⟨rfl, rfl⟩
  replace h := ip c h
  refine j_iconst C (v := (-1)) dX2_round_16 rfl ?_
  obtain ⟨rfl, rfl⟩ := sp2 h
  exact j_iret C dX2_round_17 (Nat.zero_le _) (Nat.zero_le _) ⟨rfl, rfl⟩
/-! walks -/
def m_walks_b12 (N : Nat) (l1 : Int32) : Nat → MS → Int32 → Int32 → Int32 → Option MS
  | 0, _, _, _, _ => none
  | n + 1, T, l2, l3, l4 =>
    (if (T.1 44) ≤ 0 then
    some T
    else
    (if l1 ≤ (T.1 46) then
    some T
    else
    chk 20 l4 (
    (m_minutes T l3 (T.2.1 45 l4.toNatClampNeg)).bind fun v3 =>
    nm (l2 + v3) fun x4 =>
    (if x4 < 2000 then
    chk 4000 (T.1 46) (
    nm (sA T 47 (T.1 46).toNatClampNeg x4) fun T5 =>
    nm (sI T5 46 ((T5.1 46) + 1)) fun T7 =>
    chk 20 l4 (
    chk 4000 (T5.1 46) (
    nm (sA T7 48 (T5.1 46).toNatClampNeg (T7.2.1 45 l4.toNatClampNeg)) fun T9 =>
    chk 20 l4 (
    nm (T9.2.1 45 l4.toNatClampNeg) fun x12 =>
    nm (x4 + (T9.2.1 5 3)) fun x13 =>
    nz (T9.1 44) (
    nm (jrem (l4 + 1) (T9.1 44)) fun x15 =>
    m_walks_b12 N l1 n T9 x13 x12 x15)))))
    else
    some T))))
theorem wm_walks_b12 {κ : jK} (hκ : jStd κ) (N : Nat) {Γ : jG} (C : jC κ Γ cX2_walks 5 RX2 none) {G : Nat → Nat} (l1 : Int32) {T' : MS} : ∀ (n : Nat) (T : MS) (l2 : Int32) (l3 : Int32) (l4 : Int32), m_walks_b12 N l1 n T l2 l3 l4 = some T' → J κ Γ (3, 0, 0, (fun u w' => u = none ∧ w' = wM κ G T')) 5 (wM κ G T) 0 0 12 [some (.ref (G 0)), some (.int l1), some (.int l2), some (.int l3), some (.int l4)] [] := by
  intro n
  induction n with
  | zero => intro _ _ _ _ h; cases h
  | succ n ih =>
    intro T l2 l3 l4 h
    rw [m_walks_b12] at h
    refine j_aload_n C dX2_walks_12 rfl rfl ?_
    refine jm_geti hκ C 44 (by decide) rfl q1681 dX2_walks_13 ?_
    refine j_if_le C dX2_walks_16 (tgt := 114) (by decide) (fun c => ?_) (fun c => ?_)
    · replace h := ip c h
      obtain rfl := sp1 h
      exact j_vret C dX2_walks_114 (Nat.zero_le _) (Nat.zero_le _) ⟨rfl, rfl⟩
    replace h := im c h
    refine j_aload_n C dX2_walks_19 rfl rfl ?_
    refine jm_geti hκ C 46 (by decide) rfl q1683 dX2_walks_20 ?_
    refine j_iload_n C dX2_walks_23 rfl rfl ?_
    refine j_icmp_ge C dX2_walks_24 (tgt := 114) (by decide) (fun c => ?_) (fun c => ?_)
    · replace h := ip c h
      obtain rfl := sp1 h
      exact j_vret C dX2_walks_114 (Nat.zero_le _) (Nat.zero_le _) ⟨rfl, rfl⟩
    replace h := im c h
    refine j_iload_n C dX2_walks_27 rfl rfl ?_
    refine j_aload_n C dX2_walks_28 rfl rfl ?_
    refine j_iload_n C dX2_walks_29 rfl rfl ?_
    refine j_aload_n C dX2_walks_30 rfl rfl ?_
    refine jm_geta hκ C 45 (by decide) rfl q1682 dX2_walks_31 ?_
    refine j_iload C dX2_walks_34 rfl ?_
    obtain ⟨b1, h⟩ := chk_some h
    refine jm_iald hκ C 45 rfl b1 dX2_walks_36 ?_
    obtain ⟨v3, e2, h⟩ := ob h
    refine jm_Vi hκ C (mt_m_minutes hκ G e2) hG_m_minutes hy_m_minutes rfl rfl dX2_walks_37 (jfit.of (Nat.le_of_ble_eq_true rfl) (by decide) (Nat.zero_le _) (Nat.zero_le _) (Nat.le_of_ble_eq_true rfl)) rfl ?_
    refine j_iadd C dX2_walks_40 ?_
    refine j_nmI h (fun x4 h => ?_)
    refine j_istore_n C dX2_walks_41 rfl (by decide) rfl ?_
    refine j_iload_n C dX2_walks_42 rfl rfl ?_
    refine j_sipush C (v := 2000) dX2_walks_43 rfl ?_
    refine j_icmp_lt C dX2_walks_46 (tgt := 50) (by decide) (fun c => ?_) (fun c => ?_)
    · replace h := ip c h
      refine j_aload_n C dX2_walks_50 rfl rfl ?_
      refine jm_geta hκ C 47 (by decide) rfl q1684 dX2_walks_51 ?_
      refine j_aload_n C dX2_walks_54 rfl rfl ?_
      refine jm_geti hκ C 46 (by decide) rfl q1683 dX2_walks_55 ?_
      refine j_iload_n C dX2_walks_58 rfl rfl ?_
      obtain ⟨b6, h⟩ := chk_some h
      refine jm_iast hκ C 47 rfl b6 dX2_walks_59 ?_
      refine jm_nmT h (fun T5 h => ?_)
      refine j_aload_n C dX2_walks_60 rfl rfl ?_
      refine jm_geta hκ C 48 (by decide) rfl q1685 dX2_walks_61 ?_
      refine j_aload_n C dX2_walks_64 rfl rfl ?_
      refine j_dup C dX2_walks_65 rfl ?_
      refine jm_geti hκ C 46 (by decide) rfl q1683 dX2_walks_66 ?_
      refine j_dup_x1 C dX2_walks_69 rfl rfl ?_
      refine j_iconst C (v := 1) dX2_walks_70 rfl ?_
      refine j_iadd C dX2_walks_71 ?_
      refine jm_puti hκ C 46 (by decide) rfl rfl rfl q1683 dX2_walks_72 ?_
      refine jm_nmT h (fun T7 h => ?_)
      refine j_aload_n C dX2_walks_75 rfl rfl ?_
      refine jm_geta hκ C 45 (by decide) rfl q1682 dX2_walks_76 ?_
      refine j_iload C dX2_walks_79 rfl ?_
      obtain ⟨b8, h⟩ := chk_some h
      refine jm_iald hκ C 45 rfl b8 dX2_walks_81 ?_
      obtain ⟨b10, h⟩ := chk_some h
      refine jm_iast hκ C 48 rfl b10 dX2_walks_82 ?_
      refine jm_nmT h (fun T9 h => ?_)
      refine j_aload_n C dX2_walks_83 rfl rfl ?_
      refine jm_geta hκ C 45 (by decide) rfl q1682 dX2_walks_84 ?_
      refine j_iload C dX2_walks_87 rfl ?_
      obtain ⟨b11, h⟩ := chk_some h
      refine jm_iald hκ C 45 rfl b11 dX2_walks_89 ?_
      refine j_nmI h (fun x12 h => ?_)
      refine j_istore_n C dX2_walks_90 rfl (by decide) rfl ?_
      refine j_iload_n C dX2_walks_91 rfl rfl ?_
      refine j_aload_n C dX2_walks_92 rfl rfl ?_
      refine jm_geta hκ C 5 (by decide) rfl q1642 dX2_walks_93 ?_
      refine j_iconst C (v := 3) dX2_walks_96 rfl ?_
      refine jm_ialdK hκ C 5 3 rfl rfl (vp_k rfl) dX2_walks_97 ?_
      refine j_iadd C dX2_walks_98 ?_
      refine j_nmI h (fun x13 h => ?_)
      refine j_istore_n C dX2_walks_99 rfl (by decide) rfl ?_
      refine j_iload C dX2_walks_100 rfl ?_
      refine j_iconst C (v := 1) dX2_walks_102 rfl ?_
      refine j_iadd C dX2_walks_103 ?_
      refine j_aload_n C dX2_walks_104 rfl rfl ?_
      refine jm_geti hκ C 44 (by decide) rfl q1681 dX2_walks_105 ?_
      obtain ⟨z14, h⟩ := nz_some h
      refine j_irem C dX2_walks_108 z14 ?_
      refine j_nmI h (fun x15 h => ?_)
      refine j_istore C dX2_walks_109 (by decide) rfl ?_
      refine j_goto C dX2_walks_111 (tgt := 12) (by decide) ?_
      exact j_sub (ih _ _ _ _ h) ⟨rfl, ⟨rfl, ⟨rfl, ⟨rfl, ⟨rfl, trivial⟩⟩⟩⟩⟩
    replace h := im c h
    obtain rfl := sp1 h
    exact j_vret C dX2_walks_49 (Nat.zero_le _) (Nat.zero_le _) ⟨rfl, rfl⟩
def m_walks (N : Nat) (T : MS) (p1 : Int32) : Option MS :=
  nm (sI T 46 0) fun T1 =>
  m_walks_b12 N p1 N T1 0 (-1) 0
theorem mt_m_walks {κ : jK} (hκ : jStd κ) (N : Nat) (G : Nat → Nat) {T : MS} {p1 : Int32} {T' : MS} (h : m_walks N T p1 = some T') : jM κ yX2_walks (ws_ yX2_walks cX2_walks 5 none) 3 0 0 [.ref (G 0), .int p1] (wM κ G T) (fun u w' => u = none ∧ w' = wM κ G T') := by
  rw [m_walks] at h
  refine jM.of (by decide) rfl (Nat.le_of_ble_eq_true rfl) fun Γ C _ => ?_
  show J κ Γ (3, 0, 0, (fun u w' => u = none ∧ w' = wM κ G T')) 5 (wM κ G T) 0 0 0 [some (.ref (G 0)), some (.int p1), none, none, none] []
  refine j_aload_n C dX2_walks_0 rfl rfl ?_
  refine j_iconst C (v := 0) dX2_walks_1 rfl ?_
  refine jm_puti hκ C 46 (by decide) rfl rfl rfl q1683 dX2_walks_2 ?_
  refine jm_nmT h (fun T1 h => ?_)
  refine j_iconst C (v := 0) dX2_walks_5 rfl ?_
  refine j_istore_n C dX2_walks_6 rfl (by decide) rfl ?_
  refine j_iconst C (v := (-1)) dX2_walks_7 rfl ?_
  refine j_istore_n C dX2_walks_8 rfl (by decide) rfl ?_
  refine j_iconst C (v := 0) dX2_walks_9 rfl ?_
  refine j_istore C dX2_walks_10 (by decide) rfl ?_
  exact j_sub (wm_walks_b12 hκ N C _ N _ _ _ _ h) ⟨rfl, ⟨rfl, ⟨rfl, ⟨rfl, ⟨rfl, trivial⟩⟩⟩⟩⟩
/-! first -/
def m_first_b46 (N : Nat) (l2 : Int32) : Nat → MS → Int32 → Option (Int32 × MS)
  | 0, _, _ => none
  | n + 1, T, l4 =>
    (if (T.1 46) ≤ l4 then
    some ((-2), T)
    else
    chk 4000 l4 (
    (if (T.2.1 48 l4.toNatClampNeg) = l2 then
    chk 4000 l4 (
    (if 1000 ≤ (T.2.1 47 l4.toNatClampNeg) then
    nm (l4 + 1) fun x4 =>
    m_first_b46 N l2 n T x4
    else
    chk 4000 l4 (
    some (T.2.1 47 l4.toNatClampNeg, T))))
    else
    nm (l4 + 1) fun x2 =>
    m_first_b46 N l2 n T x2)))
theorem wm_first_b46 {κ : jK} (hκ : jStd κ) (N : Nat) {Γ : jG} (C : jC κ Γ cX2_first 5 RX2 (some .int)) {G : Nat → Nat} (l2 : Int32) {v : Int32} {T' : MS} : ∀ (n : Nat) (T : MS) (l4 : Int32), m_first_b46 N l2 n T l4 = some (v, T') → J κ Γ (4, 0, 0, (fun u w' => u = some (.int v) ∧ w' = wM κ G T')) 5 (wM κ G T) 0 0 46 [some (.ref (G 0)), none, some (.int l2), none, some (.int l4)] [] := by
  intro n
  induction n with
  | zero => intro _ _ h; cases h
  | succ n ih =>
    intro T l4 h
    rw [m_first_b46] at h
    refine j_iload C dX2_first_46 rfl ?_
    refine j_aload_n C dX2_first_48 rfl rfl ?_
    refine jm_geti hκ C 46 (by decide) rfl q1683 dX2_first_49 ?_
    refine j_icmp_ge C dX2_first_52 (tgt := 93) (by decide) (fun c => ?_) (fun c => ?_)
    · replace h := ip c h
      refine j_bipush C (v := (-2)) dX2_first_93 rfl ?_
      obtain ⟨rfl, rfl⟩ := sp2 h
      exact j_iret C dX2_first_95 (Nat.zero_le _) (Nat.zero_le _) ⟨rfl, rfl⟩
    replace h := im c h
    refine j_aload_n C dX2_first_55 rfl rfl ?_
    refine jm_geta hκ C 48 (by decide) rfl q1685 dX2_first_56 ?_
    refine j_iload C dX2_first_59 rfl ?_
    obtain ⟨b1, h⟩ := chk_some h
    refine jm_iald hκ C 48 rfl b1 dX2_first_61 ?_
    refine j_iload_n C dX2_first_62 rfl rfl ?_
    refine j_icmp_ne C dX2_first_63 (tgt := 87) (by decide) (fun c => ?_) (fun c => ?_)
    · replace h := im c h
      refine j_iincN C h dX2_first_87 rfl rfl (by decide) rfl (fun x2 h => ?_)
      refine j_goto C dX2_first_90 (tgt := 46) (by decide) ?_
      exact j_sub (ih _ _ h) ⟨rfl, ⟨rfl, ⟨rfl, trivial⟩⟩⟩
    replace h := ip c h
    refine j_aload_n C dX2_first_66 rfl rfl ?_
    refine jm_geta hκ C 47 (by decide) rfl q1684 dX2_first_67 ?_
    refine j_iload C dX2_first_70 rfl ?_
    obtain ⟨b3, h⟩ := chk_some h
    refine jm_iald hκ C 47 rfl b3 dX2_first_72 ?_
    refine j_sipush C (v := 1000) dX2_first_73 rfl ?_
    refine j_icmp_ge C dX2_first_76 (tgt := 87) (by decide) (fun c => ?_) (fun c => ?_)
    · replace h := ip c h
      refine j_iincN C h dX2_first_87 rfl rfl (by decide) rfl (fun x4 h => ?_)
      refine j_goto C dX2_first_90 (tgt := 46) (by decide) ?_
      exact j_sub (ih _ _ h) ⟨rfl, ⟨rfl, ⟨rfl, trivial⟩⟩⟩
    replace h := im c h
    refine j_aload_n C dX2_first_79 rfl rfl ?_
    refine jm_geta hκ C 47 (by decide) rfl q1684 dX2_first_80 ?_
    refine j_iload C dX2_first_83 rfl ?_
    obtain ⟨b5, h⟩ := chk_some h
    refine jm_iald hκ C 47 rfl b5 dX2_first_85 ?_
    obtain ⟨rfl, rfl⟩ := sp2 h
    exact j_iret C dX2_first_86 (Nat.zero_le _) (Nat.zero_le _) ⟨rfl, rfl⟩
def m_first (N : Nat) (T : MS) (p1 : Int32) (p2 : Int32) : Option (Int32 × MS) :=
  (m_isShelf p1).bind fun v2 =>
  (if (b2i v2) = 0 then
  some ((-1), T)
  else
  (m_isPost T p2.toInt64).bind fun v4 =>
  (if (b2i v4) = 0 then
  some ((-1), T)
  else
  (m_noRow T p1 0).bind fun v6 =>
  (if 0 ≤ v6 then
  (m_reads N T p1).bind fun T9 =>
  (m_walks N T9 4000).bind fun T12 =>
  m_first_b46 N p2 N T12 0
  else
  some (v6, T))))
theorem mt_m_first {κ : jK} (hκ : jStd κ) (N : Nat) (G : Nat → Nat) {T : MS} {p1 : Int32} {p2 : Int32} {v : Int32} {T' : MS} (h : m_first N T p1 p2 = some (v, T')) : jM κ yX2_first (ws_ yX2_first cX2_first 5 (some .int)) 4 0 0 [.ref (G 0), .int p1, .int p2] (wM κ G T) (fun u w' => u = some (.int v) ∧ w' = wM κ G T') := by
  rw [m_first] at h
  refine jM.of (by decide) rfl (Nat.le_of_ble_eq_true rfl) fun Γ C _ => ?_
  show J κ Γ (4, 0, 0, (fun u w' => u = some (.int v) ∧ w' = wM κ G T')) 5 (wM κ G T) 0 0 0 [some (.ref (G 0)), some (.int p1), some (.int p2), none, none] []
  refine j_iload_n C dX2_first_0 rfl rfl ?_
  obtain ⟨v2, e1, h⟩ := ob h
  refine j_Si hκ.1 C (mt_m_isShelf hκ e1) hG_m_isShelf hy_m_isShelf rfl dX2_first_1 (jfit.of (Nat.le_of_ble_eq_true rfl) (by decide) (Nat.zero_le _) (Nat.zero_le _) (Nat.le_of_ble_eq_true rfl)) rfl ?_
  refine j_if_eq C dX2_first_4 (tgt := 16) (by decide) (fun c => ?_) (fun c => ?_)
  · replace h := ip c h
    refine j_iconst C (v := (-1)) dX2_first_16 rfl ?_
    obtain ⟨rfl, rfl⟩ := sp2 h
    exact j_iret C dX2_first_17 (Nat.zero_le _) (Nat.zero_le _) ⟨rfl, rfl⟩
  replace h := im c h
  refine j_aload_n C dX2_first_7 rfl rfl ?_
  refine j_iload_n C dX2_first_8 rfl rfl ?_
  refine j_i2l C dX2_first_9 ?_
  obtain ⟨v4, e3, h⟩ := ob h
  refine jm_Vi hκ C (mt_m_isPost hκ G e3) hG_m_isPost hy_m_isPost rfl rfl dX2_first_10 (jfit.of (Nat.le_of_ble_eq_true rfl) (by decide) (Nat.zero_le _) (Nat.zero_le _) (Nat.le_of_ble_eq_true rfl)) rfl ?_
  refine j_if_ne C dX2_first_13 (tgt := 18) (by decide) (fun c => ?_) (fun c => ?_)
  · replace h := im c h
    refine j_aload_n C dX2_first_18 rfl rfl ?_
    refine j_iload_n C dX2_first_19 rfl rfl ?_
    refine j_iconst C (v := 0) dX2_first_20 rfl ?_
    obtain ⟨v6, e5, h⟩ := ob h
    refine jm_Vi hκ C (mt_m_noRow hκ G e5) hG_m_noRow hy_m_noRow rfl rfl dX2_first_21 (jfit.of (Nat.le_of_ble_eq_true rfl) (by decide) (Nat.zero_le _) (Nat.zero_le _) (Nat.le_of_ble_eq_true rfl)) rfl ?_
    refine j_istore_n C dX2_first_24 rfl (by decide) rfl ?_
    refine j_iload_n C dX2_first_25 rfl rfl ?_
    refine j_if_ge C dX2_first_26 (tgt := 31) (by decide) (fun c => ?_) (fun c => ?_)
    · replace h := ip c h
      refine j_aload_n C dX2_first_31 rfl rfl ?_
      refine j_iload_n C dX2_first_32 rfl rfl ?_
      obtain ⟨T9, e7, h⟩ := ob h
      refine jm_Vv hκ C (mt_m_reads hκ N G e7) hG_m_reads hy_m_reads rfl rfl dX2_first_33 (jfit.of (Nat.le_of_ble_eq_true rfl) (by decide) (Nat.zero_le _) (Nat.zero_le _) (Nat.le_of_ble_eq_true rfl)) rfl ?_
      refine j_aload_n C dX2_first_36 rfl rfl ?_
      refine j_sipush C (v := 4000) dX2_first_37 rfl ?_
      obtain ⟨T12, e10, h⟩ := ob h
      refine jm_Vv hκ C (mt_m_walks hκ N G e10) hG_m_walks hy_m_walks rfl rfl dX2_first_40 (jfit.of (Nat.le_of_ble_eq_true rfl) (by decide) (Nat.zero_le _) (Nat.zero_le _) (Nat.le_of_ble_eq_true rfl)) rfl ?_
      refine j_iconst C (v := 0) dX2_first_43 rfl ?_
      refine j_istore C dX2_first_44 (by decide) rfl ?_
      exact j_sub (wm_first_b46 hκ N C _ N _ _ h) ⟨rfl, ⟨rfl, ⟨rfl, trivial⟩⟩⟩
    replace h := im c h
    refine j_iload_n C dX2_first_29 rfl rfl ?_
    obtain ⟨rfl, rfl⟩ := sp2 h
    exact j_iret C dX2_first_30 (Nat.zero_le _) (Nat.zero_le _) ⟨rfl, rfl⟩
  replace h := ip c h
  refine j_iconst C (v := (-1)) dX2_first_16 rfl ?_
  obtain ⟨rfl, rfl⟩ := sp2 h
  exact j_iret C dX2_first_17 (Nat.zero_le _) (Nat.zero_le _) ⟨rfl, rfl⟩
/-! isMinute -/
def m_isMinute (p1 : Int32) : Option Bool :=
  (m_within p1 0 999).bind fun v2 =>
  some v2
theorem mt_m_isMinute {κ : jK} (hκ : jStd κ) {w : jW} {p1 : Int32} {v : Bool} (h : m_isMinute p1 = some v) : jM κ yX2_isMinute (ws_ yX2_isMinute cX2_isMinute 1 (some .boolean)) 1 0 0 [.int p1] (w) (fun u w' => u = some (.int (b2i v)) ∧ w' = w) := by
  rw [m_isMinute] at h
  refine jM.of (by decide) rfl (Nat.le_of_ble_eq_true rfl) fun Γ C _ => ?_
  show J κ Γ (1, 0, 0, (fun u w' => u = some (.int (b2i v)) ∧ w' = w)) 1 (w) 0 0 0 [some (.int p1)] []
  refine j_iload_n C dX2_isMinute_0 rfl rfl ?_
  refine j_iconst C (v := 0) dX2_isMinute_1 rfl ?_
  refine j_sipush C (v := 999) dX2_isMinute_2 rfl ?_
  obtain ⟨v2, e1, h⟩ := ob h
  refine j_Si hκ.1 C (mt_m_within hκ e1) hG_m_within hy_m_within rfl dX2_isMinute_5 (jfit.of (Nat.le_of_ble_eq_true rfl) (by decide) (Nat.zero_le _) (Nat.zero_le _) (Nat.le_of_ble_eq_true rfl)) rfl ?_
  obtain rfl := sp1 h
  exact j_zret C (b2i_z _) dX2_isMinute_8 (Nat.zero_le _) (Nat.zero_le _) ⟨rfl, rfl⟩
/-! by -/
def m_by_b82 (N : Nat) (l3 : Int32) (l5 : Int32) (T : MS) : Option (Int32 × MS) :=
  (if l3 = 1 then
  some (l5, T)
  else
  (if l5 = 0 then
  some ((-2), T)
  else
  chk 4000 (l5 - 1) (
  some (T.2.1 48 (l5 - 1).toNatClampNeg, T))))
theorem wm_by_b82 {κ : jK} (hκ : jStd κ) (N : Nat) {Γ : jG} (C : jC κ Γ cX2_by 6 RX2 (some .int)) {G : Nat → Nat} (l3 : Int32) (l5 : Int32) {v : Int32} {T' : MS} : ∀ (T : MS), m_by_b82 N l3 l5 T = some (v, T') → J κ Γ (4, 0, 0, (fun u w' => u = some (.int v) ∧ w' = wM κ G T')) 6 (wM κ G T) 0 0 82 [some (.ref (G 0)), none, none, some (.int l3), none, some (.int l5)] [] := by
  intro T h
  rw [m_by_b82] at h
  refine j_iload_n C dX2_by_82 rfl rfl ?_
  refine j_iconst C (v := 1) dX2_by_83 rfl ?_
  refine j_icmp_ne C dX2_by_84 (tgt := 92) (by decide) (fun c => ?_) (fun c => ?_)
  · replace h := im c h
    refine j_iload C dX2_by_92 rfl ?_
    refine j_if_ne C dX2_by_94 (tgt := 102) (by decide) (fun c => ?_) (fun c => ?_)
    · replace h := im c h
      refine j_aload_n C dX2_by_102 rfl rfl ?_
      refine jm_geta hκ C 48 (by decide) rfl q1685 dX2_by_103 ?_
      refine j_iload C dX2_by_106 rfl ?_
      refine j_iconst C (v := 1) dX2_by_108 rfl ?_
      refine j_isub C dX2_by_109 ?_
      obtain ⟨b1, h⟩ := chk_some h
      refine jm_iald hκ C 48 rfl b1 dX2_by_110 ?_
      obtain ⟨rfl, rfl⟩ := sp2 h
      exact j_iret C dX2_by_111 (Nat.zero_le _) (Nat.zero_le _) ⟨rfl, rfl⟩
    replace h := ip c h
    refine j_bipush C (v := (-2)) dX2_by_97 rfl ?_
    refine j_goto C dX2_by_99 (tgt := 111) (by decide) ?_
    obtain ⟨rfl, rfl⟩ := sp2 h
    exact j_iret C dX2_by_111 (Nat.zero_le _) (Nat.zero_le _) ⟨rfl, rfl⟩
  replace h := ip c h
  refine j_iload C dX2_by_87 rfl ?_
  refine j_goto C dX2_by_89 (tgt := 111) (by decide) ?_
  obtain ⟨rfl, rfl⟩ := sp2 h
  exact j_iret C dX2_by_111 (Nat.zero_le _) (Nat.zero_le _) ⟨rfl, rfl⟩
def m_by_b56 (N : Nat) (l2 : Int32) (l3 : Int32) : Nat → MS → Int32 → Option (Int32 × MS)
  | 0, _, _ => none
  | n + 1, T, l5 =>
    (if (T.1 46) ≤ l5 then
    m_by_b82 N l3 l5 T
    else
    chk 4000 l5 (
    (if l2 < (T.2.1 47 l5.toNatClampNeg) then
    m_by_b82 N l3 l5 T
    else
    nm (l5 + 1) fun x2 =>
    m_by_b56 N l2 l3 n T x2)))
theorem wm_by_b56 {κ : jK} (hκ : jStd κ) (N : Nat) {Γ : jG} (C : jC κ Γ cX2_by 6 RX2 (some .int)) {G : Nat → Nat} (l2 : Int32) (l3 : Int32) {v : Int32} {T' : MS} : ∀ (n : Nat) (T : MS) (l5 : Int32), m_by_b56 N l2 l3 n T l5 = some (v, T') → J κ Γ (4, 0, 0, (fun u w' => u = some (.int v) ∧ w' = wM κ G T')) 6 (wM κ G T) 0 0 56 [some (.ref (G 0)), none, some (.int l2), some (.int l3), none, some (.int l5)] [] := by
  intro n
  induction n with
  | zero => intro _ _ h; cases h
  | succ n ih =>
    intro T l5 h
    rw [m_by_b56] at h
    refine j_iload C dX2_by_56 rfl ?_
    refine j_aload_n C dX2_by_58 rfl rfl ?_
    refine jm_geti hκ C 46 (by decide) rfl q1683 dX2_by_59 ?_
    refine j_icmp_ge C dX2_by_62 (tgt := 82) (by decide) (fun c => ?_) (fun c => ?_)
    · replace h := ip c h
      exact j_sub (wm_by_b82 hκ N C _ _ _ h) ⟨rfl, ⟨rfl, ⟨rfl, trivial⟩⟩⟩
    replace h := im c h
    refine j_aload_n C dX2_by_65 rfl rfl ?_
    refine jm_geta hκ C 47 (by decide) rfl q1684 dX2_by_66 ?_
    refine j_iload C dX2_by_69 rfl ?_
    obtain ⟨b1, h⟩ := chk_some h
    refine jm_iald hκ C 47 rfl b1 dX2_by_71 ?_
    refine j_iload_n C dX2_by_72 rfl rfl ?_
    refine j_icmp_gt C dX2_by_73 (tgt := 82) (by decide) (fun c => ?_) (fun c => ?_)
    · replace h := ip c h
      exact j_sub (wm_by_b82 hκ N C _ _ _ h) ⟨rfl, ⟨rfl, ⟨rfl, trivial⟩⟩⟩
    replace h := im c h
    refine j_iincN C h dX2_by_76 rfl rfl (by decide) rfl (fun x2 h => ?_)
    refine j_goto C dX2_by_79 (tgt := 56) (by decide) ?_
    exact j_sub (ih _ _ h) ⟨rfl, ⟨rfl, ⟨rfl, ⟨rfl, trivial⟩⟩⟩⟩
def m_by (N : Nat) (T : MS) (p1 : Int32) (p2 : Int32) (p3 : Int32) : Option (Int32 × MS) :=
  (m_isShelf p1).bind fun v2 =>
  (if (b2i v2) = 0 then
  some ((-1), T)
  else
  (m_isMinute p2).bind fun v4 =>
  (if (b2i v4) = 0 then
  some ((-1), T)
  else
  (m_within p3 0 1).bind fun v6 =>
  (if (b2i v6) = 0 then
  some ((-1), T)
  else
  (m_noRow T p1 0).bind fun v8 =>
  (if 0 ≤ v8 then
  (m_reads N T p1).bind fun T11 =>
  (m_walks N T11 4000).bind fun T14 =>
  m_by_b56 N p2 p3 N T14 0
  else
  some (v8, T)))))
theorem mt_m_by {κ : jK} (hκ : jStd κ) (N : Nat) (G : Nat → Nat) {T : MS} {p1 : Int32} {p2 : Int32} {p3 : Int32} {v : Int32} {T' : MS} (h : m_by N T p1 p2 p3 = some (v, T')) : jM κ yX2_by (ws_ yX2_by cX2_by 6 (some .int)) 4 0 0 [.ref (G 0), .int p1, .int p2, .int p3] (wM κ G T) (fun u w' => u = some (.int v) ∧ w' = wM κ G T') := by
  rw [m_by] at h
  refine jM.of (by decide) rfl (Nat.le_of_ble_eq_true rfl) fun Γ C _ => ?_
  show J κ Γ (4, 0, 0, (fun u w' => u = some (.int v) ∧ w' = wM κ G T')) 6 (wM κ G T) 0 0 0 [some (.ref (G 0)), some (.int p1), some (.int p2), some (.int p3), none, none] []
  refine j_iload_n C dX2_by_0 rfl rfl ?_
  obtain ⟨v2, e1, h⟩ := ob h
  refine j_Si hκ.1 C (mt_m_isShelf hκ e1) hG_m_isShelf hy_m_isShelf rfl dX2_by_1 (jfit.of (Nat.le_of_ble_eq_true rfl) (by decide) (Nat.zero_le _) (Nat.zero_le _) (Nat.le_of_ble_eq_true rfl)) rfl ?_
  refine j_if_eq C dX2_by_4 (tgt := 23) (by decide) (fun c => ?_) (fun c => ?_)
  · replace h := ip c h
    refine j_iconst C (v := (-1)) dX2_by_23 rfl ?_
    obtain ⟨rfl, rfl⟩ := sp2 h
    exact j_iret C dX2_by_24 (Nat.zero_le _) (Nat.zero_le _) ⟨rfl, rfl⟩
  replace h := im c h
  refine j_iload_n C dX2_by_7 rfl rfl ?_
  obtain ⟨v4, e3, h⟩ := ob h
  refine j_Si hκ.1 C (mt_m_isMinute hκ e3) hG_m_isMinute hy_m_isMinute rfl dX2_by_8 (jfit.of (Nat.le_of_ble_eq_true rfl) (by decide) (Nat.zero_le _) (Nat.zero_le _) (Nat.le_of_ble_eq_true rfl)) rfl ?_
  refine j_if_eq C dX2_by_11 (tgt := 23) (by decide) (fun c => ?_) (fun c => ?_)
  · replace h := ip c h
    refine j_iconst C (v := (-1)) dX2_by_23 rfl ?_
    obtain ⟨rfl, rfl⟩ := sp2 h
    exact j_iret C dX2_by_24 (Nat.zero_le _) (Nat.zero_le _) ⟨rfl, rfl⟩
  replace h := im c h
  refine j_iload_n C dX2_by_14 rfl rfl ?_
  refine j_iconst C (v := 0) dX2_by_15 rfl ?_
  refine j_iconst C (v := 1) dX2_by_16 rfl ?_
  obtain ⟨v6, e5, h⟩ := ob h
  refine j_Si hκ.1 C (mt_m_within hκ e5) hG_m_within hy_m_within rfl dX2_by_17 (jfit.of (Nat.le_of_ble_eq_true rfl) (by decide) (Nat.zero_le _) (Nat.zero_le _) (Nat.le_of_ble_eq_true rfl)) rfl ?_
  refine j_if_ne C dX2_by_20 (tgt := 25) (by decide) (fun c => ?_) (fun c => ?_)
  · replace h := im c h
    refine j_aload_n C dX2_by_25 rfl rfl ?_
    refine j_iload_n C dX2_by_26 rfl rfl ?_
    refine j_iconst C (v := 0) dX2_by_27 rfl ?_
    obtain ⟨v8, e7, h⟩ := ob h
    refine jm_Vi hκ C (mt_m_noRow hκ G e7) hG_m_noRow hy_m_noRow rfl rfl dX2_by_28 (jfit.of (Nat.le_of_ble_eq_true rfl) (by decide) (Nat.zero_le _) (Nat.zero_le _) (Nat.le_of_ble_eq_true rfl)) rfl ?_
    refine j_istore C dX2_by_31 (by decide) rfl ?_
    refine j_iload C dX2_by_33 rfl ?_
    refine j_if_ge C dX2_by_35 (tgt := 41) (by decide) (fun c => ?_) (fun c => ?_)
    · replace h := ip c h
      refine j_aload_n C dX2_by_41 rfl rfl ?_
      refine j_iload_n C dX2_by_42 rfl rfl ?_
      obtain ⟨T11, e9, h⟩ := ob h
      refine jm_Vv hκ C (mt_m_reads hκ N G e9) hG_m_reads hy_m_reads rfl rfl dX2_by_43 (jfit.of (Nat.le_of_ble_eq_true rfl) (by decide) (Nat.zero_le _) (Nat.zero_le _) (Nat.le_of_ble_eq_true rfl)) rfl ?_
      refine j_aload_n C dX2_by_46 rfl rfl ?_
      refine j_sipush C (v := 4000) dX2_by_47 rfl ?_
      obtain ⟨T14, e12, h⟩ := ob h
      refine jm_Vv hκ C (mt_m_walks hκ N G e12) hG_m_walks hy_m_walks rfl rfl dX2_by_50 (jfit.of (Nat.le_of_ble_eq_true rfl) (by decide) (Nat.zero_le _) (Nat.zero_le _) (Nat.le_of_ble_eq_true rfl)) rfl ?_
      refine j_iconst C (v := 0) dX2_by_53 rfl ?_
      refine j_istore C dX2_by_54 (by decide) rfl ?_
      exact j_sub (wm_by_b56 hκ N C _ _ N _ _ h) ⟨rfl, ⟨rfl, ⟨rfl, ⟨rfl, trivial⟩⟩⟩⟩
    replace h := im c h
    refine j_iload C dX2_by_38 rfl ?_
    obtain ⟨rfl, rfl⟩ := sp2 h
    exact j_iret C dX2_by_40 (Nat.zero_le _) (Nat.zero_le _) ⟨rfl, rfl⟩
  replace h := ip c h
  refine j_iconst C (v := (-1)) dX2_by_23 rfl ?_
  obtain ⟨rfl, rfl⟩ := sp2 h
  exact j_iret C dX2_by_24 (Nat.zero_le _) (Nat.zero_le _) ⟨rfl, rfl⟩
/-! isSeen -/
def m_isSeen (T : MS) (p1 : Int32) (p2 : Int32) : Option Bool :=
  chk 18000 ((2000 * p1) + p2) (
  nm (T.2.1 49 ((2000 * p1) + p2).toNatClampNeg) fun x2 =>
  (if x2 < 0 then
  some false
  else
  (if (jmax 1 (T.2.1 5 3)) ≤ (p2 - x2) then
  some false
  else
  some true)))
theorem mt_m_isSeen {κ : jK} (hκ : jStd κ) (G : Nat → Nat) {T : MS} {p1 : Int32} {p2 : Int32} {v : Bool} (h : m_isSeen T p1 p2 = some v) : jM κ yX2_isSeen (ws_ yX2_isSeen cX2_isSeen 4 (some .boolean)) 1 0 0 [.ref (G 0), .int p1, .int p2] (wM κ G T) (fun u w' => u = some (.int (b2i v)) ∧ w' = wM κ G T) := by
  rw [m_isSeen] at h
  refine jM.of (by decide) rfl (Nat.le_of_ble_eq_true rfl) fun Γ C _ => ?_
  show J κ Γ (1, 0, 0, (fun u w' => u = some (.int (b2i v)) ∧ w' = wM κ G T)) 4 (wM κ G T) 0 0 0 [some (.ref (G 0)), some (.int p1), some (.int p2), none] []
  refine j_aload_n C dX2_isSeen_0 rfl rfl ?_
  refine jm_geta hκ C 49 (by decide) rfl q1686 dX2_isSeen_1 ?_
  refine j_sipush C (v := 2000) dX2_isSeen_4 rfl ?_
  refine j_iload_n C dX2_isSeen_7 rfl rfl ?_
  refine j_imul C dX2_isSeen_8 ?_
  refine j_iload_n C dX2_isSeen_9 rfl rfl ?_
  refine j_iadd C dX2_isSeen_10 ?_
  obtain ⟨b1, h⟩ := chk_some h
  refine jm_iald hκ C 49 rfl b1 dX2_isSeen_11 ?_
  refine j_nmI h (fun x2 h => ?_)
  refine j_istore_n C dX2_isSeen_12 rfl (by decide) rfl ?_
  refine j_iload_n C dX2_isSeen_13 rfl rfl ?_
  refine j_if_lt C dX2_isSeen_14 (tgt := 37) (by decide) (fun c => ?_) (fun c => ?_)
  · replace h := ip c h
    refine j_iconst C (v := 0) dX2_isSeen_37 rfl ?_
    obtain rfl := sp1 h
    exact j_zret C rfl dX2_isSeen_38 (Nat.zero_le _) (Nat.zero_le _) ⟨rfl, rfl⟩
  replace h := im c h
  refine j_iload_n C dX2_isSeen_17 rfl rfl ?_
  refine j_iload_n C dX2_isSeen_18 rfl rfl ?_
  refine j_isub C dX2_isSeen_19 ?_
  refine j_iconst C (v := 1) dX2_isSeen_20 rfl ?_
  refine j_aload_n C dX2_isSeen_21 rfl rfl ?_
  refine jm_geta hκ C 5 (by decide) rfl q1642 dX2_isSeen_22 ?_
  refine j_iconst C (v := 3) dX2_isSeen_25 rfl ?_
  refine jm_ialdK hκ C 5 3 rfl rfl (vp_k rfl) dX2_isSeen_26 ?_
  refine j_mmax C dX2_isSeen_27 q1977 q695 q129 q696 (Nat.le_of_ble_eq_true rfl) (Nat.le_of_ble_eq_true rfl) (Nat.zero_le _) (Nat.zero_le _) ?_
  refine j_icmp_ge C dX2_isSeen_30 (tgt := 37) (by decide) (fun c => ?_) (fun c => ?_)
  · replace h := ip c h
    refine j_iconst C (v := 0) dX2_isSeen_37 rfl ?_
    obtain rfl := sp1 h
    exact j_zret C rfl dX2_isSeen_38 (Nat.zero_le _) (Nat.zero_le _) ⟨rfl, rfl⟩
  replace h := im c h
  refine j_iconst C (v := 1) dX2_isSeen_33 rfl ?_
  refine j_goto C dX2_isSeen_34 (tgt := 38) (by decide) ?_
  obtain rfl := sp1 h
  exact j_zret C rfl dX2_isSeen_38 (Nat.zero_le _) (Nat.zero_le _) ⟨rfl, rfl⟩
/-! looks -/
def m_looks_b83 (N : Nat) (l1 : Int32) (k75 : MS → Int32 → Option MS) : Nat → MS → Int32 → Option MS
  | 0, _, _ => none
  | n + 1, T, l2 =>
    (if 2000 ≤ l2 then
    nm (l1 + 1) fun x1 =>
    k75 T x1
    else
    chk 18000 ((2000 * l1) + l2) (
    (if 0 ≤ (T.2.1 49 ((2000 * l1) + l2).toNatClampNeg) then
    nm (l2 + 1) fun x3 =>
    m_looks_b83 N l1 k75 n T x3
    else
    chk 18000 (((2000 * l1) + l2) - 1) (
    chk 18000 ((2000 * l1) + l2) (
    nm (sA T 49 ((2000 * l1) + l2).toNatClampNeg (T.2.1 49 (((2000 * l1) + l2) - 1).toNatClampNeg)) fun T5 =>
    nm (l2 + 1) fun x7 =>
    m_looks_b83 N l1 k75 n T5 x7)))))
theorem wm_looks_b83 {κ : jK} (hκ : jStd κ) (N : Nat) {Γ : jG} (C : jC κ Γ cX2_looks 3 RX2 none) {G : Nat → Nat} (l1 : Int32) (k75 : MS → Int32 → Option MS) {T' : MS} (hk75 : ∀ (T : MS) (l1 : Int32), k75 T l1 = some T' → J κ Γ (4, 0, 0, (fun u w' => u = none ∧ w' = wM κ G T')) 3 (wM κ G T) 0 0 75 [some (.ref (G 0)), some (.int l1), none] []) : ∀ (n : Nat) (T : MS) (l2 : Int32), m_looks_b83 N l1 k75 n T l2 = some T' → J κ Γ (4, 0, 0, (fun u w' => u = none ∧ w' = wM κ G T')) 3 (wM κ G T) 0 0 83 [some (.ref (G 0)), some (.int l1), some (.int l2)] [] := by
  intro n
  induction n with
  | zero => intro _ _ h; cases h
  | succ n ih =>
    intro T l2 h
    rw [m_looks_b83] at h
    refine j_iload_n C dX2_looks_83 rfl rfl ?_
    refine j_sipush C (v := 2000) dX2_looks_84 rfl ?_
    refine j_icmp_ge C dX2_looks_87 (tgt := 137) (by decide) (fun c => ?_) (fun c => ?_)
    · replace h := ip c h
      refine j_iincN C h dX2_looks_137 rfl rfl (by decide) rfl (fun x1 h => ?_)
      refine j_goto C dX2_looks_140 (tgt := 75) (by decide) ?_
      exact j_sub (hk75 _ _ h) ⟨rfl, ⟨rfl, trivial⟩⟩
    replace h := im c h
    refine j_aload_n C dX2_looks_90 rfl rfl ?_
    refine jm_geta hκ C 49 (by decide) rfl q1686 dX2_looks_91 ?_
    refine j_sipush C (v := 2000) dX2_looks_94 rfl ?_
    refine j_iload_n C dX2_looks_97 rfl rfl ?_
    refine j_imul C dX2_looks_98 ?_
    refine j_iload_n C dX2_looks_99 rfl rfl ?_
    refine j_iadd C dX2_looks_100 ?_
    obtain ⟨b2, h⟩ := chk_some h
    refine jm_iald hκ C 49 rfl b2 dX2_looks_101 ?_
    refine j_if_ge C dX2_looks_102 (tgt := 131) (by decide) (fun c => ?_) (fun c => ?_)
    · replace h := ip c h
      refine j_iincN C h dX2_looks_131 rfl rfl (by decide) rfl (fun x3 h => ?_)
      refine j_goto C dX2_looks_134 (tgt := 83) (by decide) ?_
      exact j_sub (ih _ _ h) ⟨rfl, ⟨rfl, ⟨rfl, trivial⟩⟩⟩
    replace h := im c h
    refine j_aload_n C dX2_looks_105 rfl rfl ?_
    refine jm_geta hκ C 49 (by decide) rfl q1686 dX2_looks_106 ?_
    refine j_sipush C (v := 2000) dX2_looks_109 rfl ?_
    refine j_iload_n C dX2_looks_112 rfl rfl ?_
    refine j_imul C dX2_looks_113 ?_
    refine j_iload_n C dX2_looks_114 rfl rfl ?_
    refine j_iadd C dX2_looks_115 ?_
    refine j_aload_n C dX2_looks_116 rfl rfl ?_
    refine jm_geta hκ C 49 (by decide) rfl q1686 dX2_looks_117 ?_
    refine j_sipush C (v := 2000) dX2_looks_120 rfl ?_
    refine j_iload_n C dX2_looks_123 rfl rfl ?_
    refine j_imul C dX2_looks_124 ?_
    refine j_iload_n C dX2_looks_125 rfl rfl ?_
    refine j_iadd C dX2_looks_126 ?_
    refine j_iconst C (v := 1) dX2_looks_127 rfl ?_
    refine j_isub C dX2_looks_128 ?_
    obtain ⟨b4, h⟩ := chk_some h
    refine jm_iald hκ C 49 rfl b4 dX2_looks_129 ?_
    obtain ⟨b6, h⟩ := chk_some h
    refine jm_iast hκ C 49 rfl b6 dX2_looks_130 ?_
    refine jm_nmT h (fun T5 h => ?_)
    refine j_iincN C h dX2_looks_131 rfl rfl (by decide) rfl (fun x7 h => ?_)
    refine j_goto C dX2_looks_134 (tgt := 83) (by decide) ?_
    exact j_sub (ih _ _ h) ⟨rfl, ⟨rfl, ⟨rfl, trivial⟩⟩⟩
def m_looks_b75 (N : Nat) : Nat → MS → Int32 → Option MS
  | 0, _, _ => none
  | n + 1, T, l1 =>
    (if 9 ≤ l1 then
    some T
    else
    m_looks_b83 N l1 (fun t y1 => m_looks_b75 N n t y1) N T 1)
theorem wm_looks_b75 {κ : jK} (hκ : jStd κ) (N : Nat) {Γ : jG} (C : jC κ Γ cX2_looks 3 RX2 none) {G : Nat → Nat}  {T' : MS} : ∀ (n : Nat) (T : MS) (l1 : Int32), m_looks_b75 N n T l1 = some T' → J κ Γ (4, 0, 0, (fun u w' => u = none ∧ w' = wM κ G T')) 3 (wM κ G T) 0 0 75 [some (.ref (G 0)), some (.int l1), none] [] := by
  intro n
  induction n with
  | zero => intro _ _ h; cases h
  | succ n ih =>
    intro T l1 h
    rw [m_looks_b75] at h
    refine j_iload_n C dX2_looks_75 rfl rfl ?_
    refine j_bipush C (v := 9) dX2_looks_76 rfl ?_
    refine j_icmp_ge C dX2_looks_78 (tgt := 143) (by decide) (fun c => ?_) (fun c => ?_)
    · replace h := ip c h
      obtain rfl := sp1 h
      exact j_vret C dX2_looks_143 (Nat.zero_le _) (Nat.zero_le _) ⟨rfl, rfl⟩
    replace h := im c h
    refine j_iconst C (v := 1) dX2_looks_81 rfl ?_
    refine j_istore_n C dX2_looks_82 rfl (by decide) rfl ?_
    exact j_sub (wm_looks_b83 hκ N C _ _ (fun _ _ h => ih _ _ h) N _ _ h) ⟨rfl, ⟨rfl, ⟨rfl, trivial⟩⟩⟩
def m_looks_b31 (N : Nat) : Nat → MS → Int32 → Option MS
  | 0, _, _ => none
  | n + 1, T, l1 =>
    (if (T.1 46) ≤ l1 then
    m_looks_b75 N N T 0
    else
    chk 4000 l1 (
    chk 4000 l1 (
    chk 4000 l1 (
    chk 18000 ((2000 * (T.2.1 48 l1.toNatClampNeg)) + (T.2.1 47 l1.toNatClampNeg)) (
    nm (sA T 49 ((2000 * (T.2.1 48 l1.toNatClampNeg)) + (T.2.1 47 l1.toNatClampNeg)).toNatClampNeg (T.2.1 47 l1.toNatClampNeg)) fun T4 =>
    nm (l1 + 1) fun x6 =>
    m_looks_b31 N n T4 x6)))))
theorem wm_looks_b31 {κ : jK} (hκ : jStd κ) (N : Nat) {Γ : jG} (C : jC κ Γ cX2_looks 3 RX2 none) {G : Nat → Nat}  {T' : MS} : ∀ (n : Nat) (T : MS) (l1 : Int32), m_looks_b31 N n T l1 = some T' → J κ Γ (4, 0, 0, (fun u w' => u = none ∧ w' = wM κ G T')) 3 (wM κ G T) 0 0 31 [some (.ref (G 0)), some (.int l1), none] [] := by
  intro n
  induction n with
  | zero => intro _ _ h; cases h
  | succ n ih =>
    intro T l1 h
    rw [m_looks_b31] at h
    refine j_iload_n C dX2_looks_31 rfl rfl ?_
    refine j_aload_n C dX2_looks_32 rfl rfl ?_
    refine jm_geti hκ C 46 (by decide) rfl q1683 dX2_looks_33 ?_
    refine j_icmp_ge C dX2_looks_36 (tgt := 73) (by decide) (fun c => ?_) (fun c => ?_)
    · replace h := ip c h
      refine j_iconst C (v := 0) dX2_looks_73 rfl ?_
      refine j_istore_n C dX2_looks_74 rfl (by decide) rfl ?_
      exact j_sub (wm_looks_b75 hκ N C N _ _ h) ⟨rfl, ⟨rfl, trivial⟩⟩
    replace h := im c h
    refine j_aload_n C dX2_looks_39 rfl rfl ?_
    refine jm_geta hκ C 49 (by decide) rfl q1686 dX2_looks_40 ?_
    refine j_sipush C (v := 2000) dX2_looks_43 rfl ?_
    refine j_aload_n C dX2_looks_46 rfl rfl ?_
    refine jm_geta hκ C 48 (by decide) rfl q1685 dX2_looks_47 ?_
    refine j_iload_n C dX2_looks_50 rfl rfl ?_
    obtain ⟨b1, h⟩ := chk_some h
    refine jm_iald hκ C 48 rfl b1 dX2_looks_51 ?_
    refine j_imul C dX2_looks_52 ?_
    refine j_aload_n C dX2_looks_53 rfl rfl ?_
    refine jm_geta hκ C 47 (by decide) rfl q1684 dX2_looks_54 ?_
    refine j_iload_n C dX2_looks_57 rfl rfl ?_
    obtain ⟨b2, h⟩ := chk_some h
    refine jm_iald hκ C 47 rfl b2 dX2_looks_58 ?_
    refine j_iadd C dX2_looks_59 ?_
    refine j_aload_n C dX2_looks_60 rfl rfl ?_
    refine jm_geta hκ C 47 (by decide) rfl q1684 dX2_looks_61 ?_
    refine j_iload_n C dX2_looks_64 rfl rfl ?_
    obtain ⟨b3, h⟩ := chk_some h
    refine jm_iald hκ C 47 rfl b3 dX2_looks_65 ?_
    obtain ⟨b5, h⟩ := chk_some h
    refine jm_iast hκ C 49 rfl b5 dX2_looks_66 ?_
    refine jm_nmT h (fun T4 h => ?_)
    refine j_iincN C h dX2_looks_67 rfl rfl (by decide) rfl (fun x6 h => ?_)
    refine j_goto C dX2_looks_70 (tgt := 31) (by decide) ?_
    exact j_sub (ih _ _ h) ⟨rfl, ⟨rfl, trivial⟩⟩
def m_looks_b9 (N : Nat) : Nat → MS → Int32 → Option MS
  | 0, _, _ => none
  | n + 1, T, l1 =>
    (if 18000 ≤ l1 then
    m_looks_b31 N N T 0
    else
    chk 18000 l1 (
    nm (sA T 49 l1.toNatClampNeg (-1)) fun T1 =>
    nm (l1 + 1) fun x3 =>
    m_looks_b9 N n T1 x3))
theorem wm_looks_b9 {κ : jK} (hκ : jStd κ) (N : Nat) {Γ : jG} (C : jC κ Γ cX2_looks 3 RX2 none) {G : Nat → Nat}  {T' : MS} : ∀ (n : Nat) (T : MS) (l1 : Int32), m_looks_b9 N n T l1 = some T' → J κ Γ (4, 0, 0, (fun u w' => u = none ∧ w' = wM κ G T')) 3 (wM κ G T) 0 0 9 [some (.ref (G 0)), some (.int l1), none] [] := by
  intro n
  induction n with
  | zero => intro _ _ h; cases h
  | succ n ih =>
    intro T l1 h
    rw [m_looks_b9] at h
    refine j_iload_n C dX2_looks_9 rfl rfl ?_
    refine j_sipush C (v := 18000) dX2_looks_10 rfl ?_
    refine j_icmp_ge C dX2_looks_13 (tgt := 29) (by decide) (fun c => ?_) (fun c => ?_)
    · replace h := ip c h
      refine j_iconst C (v := 0) dX2_looks_29 rfl ?_
      refine j_istore_n C dX2_looks_30 rfl (by decide) rfl ?_
      exact j_sub (wm_looks_b31 hκ N C N _ _ h) ⟨rfl, ⟨rfl, trivial⟩⟩
    replace h := im c h
    refine j_aload_n C dX2_looks_16 rfl rfl ?_
    refine jm_geta hκ C 49 (by decide) rfl q1686 dX2_looks_17 ?_
    refine j_iload_n C dX2_looks_20 rfl rfl ?_
    refine j_iconst C (v := (-1)) dX2_looks_21 rfl ?_
    obtain ⟨b2, h⟩ := chk_some h
    refine jm_iast hκ C 49 rfl b2 dX2_looks_22 ?_
    refine jm_nmT h (fun T1 h => ?_)
    refine j_iincN C h dX2_looks_23 rfl rfl (by decide) rfl (fun x3 h => ?_)
    refine j_goto C dX2_looks_26 (tgt := 9) (by decide) ?_
    exact j_sub (ih _ _ h) ⟨rfl, ⟨rfl, trivial⟩⟩
def m_looks (N : Nat) (T : MS) : Option MS :=
  (m_walks N T 4000).bind fun T3 =>
  m_looks_b9 N N T3 0
theorem mt_m_looks {κ : jK} (hκ : jStd κ) (N : Nat) (G : Nat → Nat) {T : MS} {T' : MS} (h : m_looks N T = some T') : jM κ yX2_looks (ws_ yX2_looks cX2_looks 3 none) 4 0 0 [.ref (G 0)] (wM κ G T) (fun u w' => u = none ∧ w' = wM κ G T') := by
  rw [m_looks] at h
  refine jM.of (by decide) rfl (Nat.le_of_ble_eq_true rfl) fun Γ C _ => ?_
  show J κ Γ (4, 0, 0, (fun u w' => u = none ∧ w' = wM κ G T')) 3 (wM κ G T) 0 0 0 [some (.ref (G 0)), none, none] []
  refine j_aload_n C dX2_looks_0 rfl rfl ?_
  refine j_sipush C (v := 4000) dX2_looks_1 rfl ?_
  obtain ⟨T3, e1, h⟩ := ob h
  refine jm_Vv hκ C (mt_m_walks hκ N G e1) hG_m_walks hy_m_walks rfl rfl dX2_looks_4 (jfit.of (Nat.le_of_ble_eq_true rfl) (by decide) (Nat.zero_le _) (Nat.zero_le _) (Nat.le_of_ble_eq_true rfl)) rfl ?_
  refine j_iconst C (v := 0) dX2_looks_7 rfl ?_
  refine j_istore_n C dX2_looks_8 rfl (by decide) rfl ?_
  exact j_sub (wm_looks_b9 hκ N C N _ _ h) ⟨rfl, ⟨rfl, trivial⟩⟩
/-! unseenFor -/
def m_unseenFor (T : MS) (p1 : Int32) (p2 : Int32) : Option Int32 :=
  chk 18000 ((2000 * p1) + p2) (
  nm (T.2.1 49 ((2000 * p1) + p2).toNatClampNeg) fun x2 =>
  (if 0 ≤ x2 then
  some (p2 - x2)
  else
  some (p2 + 1)))
theorem mt_m_unseenFor {κ : jK} (hκ : jStd κ) (G : Nat → Nat) {T : MS} {p1 : Int32} {p2 : Int32} {v : Int32} (h : m_unseenFor T p1 p2 = some v) : jM κ yX2_unseenFor (ws_ yX2_unseenFor cX2_unseenFor 4 (some .int)) 0 0 0 [.ref (G 0), .int p1, .int p2] (wM κ G T) (fun u w' => u = some (.int v) ∧ w' = wM κ G T) := by
  rw [m_unseenFor] at h
  refine jM.of (by decide) rfl (Nat.le_of_ble_eq_true rfl) fun Γ C _ => ?_
  show J κ Γ (0, 0, 0, (fun u w' => u = some (.int v) ∧ w' = wM κ G T)) 4 (wM κ G T) 0 0 0 [some (.ref (G 0)), some (.int p1), some (.int p2), none] []
  refine j_aload_n C dX2_unseenFor_0 rfl rfl ?_
  refine jm_geta hκ C 49 (by decide) rfl q1686 dX2_unseenFor_1 ?_
  refine j_sipush C (v := 2000) dX2_unseenFor_4 rfl ?_
  refine j_iload_n C dX2_unseenFor_7 rfl rfl ?_
  refine j_imul C dX2_unseenFor_8 ?_
  refine j_iload_n C dX2_unseenFor_9 rfl rfl ?_
  refine j_iadd C dX2_unseenFor_10 ?_
  obtain ⟨b1, h⟩ := chk_some h
  refine jm_iald hκ C 49 rfl b1 dX2_unseenFor_11 ?_
  refine j_nmI h (fun x2 h => ?_)
  refine j_istore_n C dX2_unseenFor_12 rfl (by decide) rfl ?_
  refine j_iload_n C dX2_unseenFor_13 rfl rfl ?_
  refine j_if_ge C dX2_unseenFor_14 (tgt := 23) (by decide) (fun c => ?_) (fun c => ?_)
  · replace h := ip c h
    refine j_iload_n C dX2_unseenFor_23 rfl rfl ?_
    refine j_iload_n C dX2_unseenFor_24 rfl rfl ?_
    refine j_isub C dX2_unseenFor_25 ?_
    obtain rfl := sp1 h
    exact j_iret C dX2_unseenFor_26 (Nat.zero_le _) (Nat.zero_le _) ⟨rfl, rfl⟩
  replace h := im c h
  refine j_iload_n C dX2_unseenFor_17 rfl rfl ?_
  refine j_iconst C (v := 1) dX2_unseenFor_18 rfl ?_
  refine j_iadd C dX2_unseenFor_19 ?_
  refine j_goto C dX2_unseenFor_20 (tgt := 26) (by decide) ?_
  obtain rfl := sp1 h
  exact j_iret C dX2_unseenFor_26 (Nat.zero_le _) (Nat.zero_le _) ⟨rfl, rfl⟩
/-! unseen -/
def m_unseen (N : Nat) (T : MS) (p1 : Int32) (p2 : Int32) (p3 : Int32) (p4 : Int32) : Option (Int32 × MS) :=
  (m_isShelf p1).bind fun v2 =>
  (if (b2i v2) = 0 then
  some ((-1), T)
  else
  (m_isPost T p2.toInt64).bind fun v4 =>
  (if (b2i v4) = 0 then
  some ((-1), T)
  else
  (m_isMinute p3).bind fun v6 =>
  (if (b2i v6) = 0 then
  some ((-1), T)
  else
  (m_within p4 0 1).bind fun v8 =>
  (if (b2i v8) = 0 then
  some ((-1), T)
  else
  (m_noRow T p1 0).bind fun v10 =>
  (if 0 ≤ v10 then
  (m_reads N T p1).bind fun T13 =>
  (m_looks N T13).bind fun T16 =>
  (if p4 = 0 then
  (m_unseenFor T16 p2 p3).bind fun v20 =>
  some (v20, T16)
  else
  (m_isSeen T16 p2 p3).bind fun v18 =>
  (if (b2i v18) = 0 then
  some (0, T16)
  else
  some (1, T16)))
  else
  some (v10, T))))))
theorem mt_m_unseen {κ : jK} (hκ : jStd κ) (N : Nat) (G : Nat → Nat) {T : MS} {p1 : Int32} {p2 : Int32} {p3 : Int32} {p4 : Int32} {v : Int32} {T' : MS} (h : m_unseen N T p1 p2 p3 p4 = some (v, T')) : jM κ yX2_unseen (ws_ yX2_unseen cX2_unseen 6 (some .int)) 5 0 0 [.ref (G 0), .int p1, .int p2, .int p3, .int p4] (wM κ G T) (fun u w' => u = some (.int v) ∧ w' = wM κ G T') := by
  rw [m_unseen] at h
  refine jM.of (by decide) rfl (Nat.le_of_ble_eq_true rfl) fun Γ C _ => ?_
  show J κ Γ (5, 0, 0, (fun u w' => u = some (.int v) ∧ w' = wM κ G T')) 6 (wM κ G T) 0 0 0 [some (.ref (G 0)), some (.int p1), some (.int p2), some (.int p3), some (.int p4), none] []
  refine j_iload_n C dX2_unseen_0 rfl rfl ?_
  obtain ⟨v2, e1, h⟩ := ob h
  refine j_Si hκ.1 C (mt_m_isShelf hκ e1) hG_m_isShelf hy_m_isShelf rfl dX2_unseen_1 (jfit.of (Nat.le_of_ble_eq_true rfl) (by decide) (Nat.zero_le _) (Nat.zero_le _) (Nat.le_of_ble_eq_true rfl)) rfl ?_
  refine j_if_eq C dX2_unseen_4 (tgt := 33) (by decide) (fun c => ?_) (fun c => ?_)
  · replace h := ip c h
    refine j_iconst C (v := (-1)) dX2_unseen_33 rfl ?_
    obtain ⟨rfl, rfl⟩ := sp2 h
    exact j_iret C dX2_unseen_34 (Nat.zero_le _) (Nat.zero_le _) ⟨rfl, rfl⟩
  replace h := im c h
  refine j_aload_n C dX2_unseen_7 rfl rfl ?_
  refine j_iload_n C dX2_unseen_8 rfl rfl ?_
  refine j_i2l C dX2_unseen_9 ?_
  obtain ⟨v4, e3, h⟩ := ob h
  refine jm_Vi hκ C (mt_m_isPost hκ G e3) hG_m_isPost hy_m_isPost rfl rfl dX2_unseen_10 (jfit.of (Nat.le_of_ble_eq_true rfl) (by decide) (Nat.zero_le _) (Nat.zero_le _) (Nat.le_of_ble_eq_true rfl)) rfl ?_
  refine j_if_eq C dX2_unseen_13 (tgt := 33) (by decide) (fun c => ?_) (fun c => ?_)
  · replace h := ip c h
    refine j_iconst C (v := (-1)) dX2_unseen_33 rfl ?_
    obtain ⟨rfl, rfl⟩ := sp2 h
    exact j_iret C dX2_unseen_34 (Nat.zero_le _) (Nat.zero_le _) ⟨rfl, rfl⟩
  replace h := im c h
  refine j_iload_n C dX2_unseen_16 rfl rfl ?_
  obtain ⟨v6, e5, h⟩ := ob h
  refine j_Si hκ.1 C (mt_m_isMinute hκ e5) hG_m_isMinute hy_m_isMinute rfl dX2_unseen_17 (jfit.of (Nat.le_of_ble_eq_true rfl) (by decide) (Nat.zero_le _) (Nat.zero_le _) (Nat.le_of_ble_eq_true rfl)) rfl ?_
  refine j_if_eq C dX2_unseen_20 (tgt := 33) (by decide) (fun c => ?_) (fun c => ?_)
  · replace h := ip c h
    refine j_iconst C (v := (-1)) dX2_unseen_33 rfl ?_
    obtain ⟨rfl, rfl⟩ := sp2 h
    exact j_iret C dX2_unseen_34 (Nat.zero_le _) (Nat.zero_le _) ⟨rfl, rfl⟩
  replace h := im c h
  refine j_iload C dX2_unseen_23 rfl ?_
  refine j_iconst C (v := 0) dX2_unseen_25 rfl ?_
  refine j_iconst C (v := 1) dX2_unseen_26 rfl ?_
  obtain ⟨v8, e7, h⟩ := ob h
  refine j_Si hκ.1 C (mt_m_within hκ e7) hG_m_within hy_m_within rfl dX2_unseen_27 (jfit.of (Nat.le_of_ble_eq_true rfl) (by decide) (Nat.zero_le _) (Nat.zero_le _) (Nat.le_of_ble_eq_true rfl)) rfl ?_
  refine j_if_ne C dX2_unseen_30 (tgt := 35) (by decide) (fun c => ?_) (fun c => ?_)
  · replace h := im c h
    refine j_aload_n C dX2_unseen_35 rfl rfl ?_
    refine j_iload_n C dX2_unseen_36 rfl rfl ?_
    refine j_iconst C (v := 0) dX2_unseen_37 rfl ?_
    obtain ⟨v10, e9, h⟩ := ob h
    refine jm_Vi hκ C (mt_m_noRow hκ G e9) hG_m_noRow hy_m_noRow rfl rfl dX2_unseen_38 (jfit.of (Nat.le_of_ble_eq_true rfl) (by decide) (Nat.zero_le _) (Nat.zero_le _) (Nat.le_of_ble_eq_true rfl)) rfl ?_
    refine j_istore C dX2_unseen_41 (by decide) rfl ?_
    refine j_iload C dX2_unseen_43 rfl ?_
    refine j_if_ge C dX2_unseen_45 (tgt := 51) (by decide) (fun c => ?_) (fun c => ?_)
    · replace h := ip c h
      refine j_aload_n C dX2_unseen_51 rfl rfl ?_
      refine j_iload_n C dX2_unseen_52 rfl rfl ?_
      obtain ⟨T13, e11, h⟩ := ob h
      refine jm_Vv hκ C (mt_m_reads hκ N G e11) hG_m_reads hy_m_reads rfl rfl dX2_unseen_53 (jfit.of (Nat.le_of_ble_eq_true rfl) (by decide) (Nat.zero_le _) (Nat.zero_le _) (Nat.le_of_ble_eq_true rfl)) rfl ?_
      refine j_aload_n C dX2_unseen_56 rfl rfl ?_
      obtain ⟨T16, e14, h⟩ := ob h
      refine jm_Vv hκ C (mt_m_looks hκ N G e14) hG_m_looks hy_m_looks rfl rfl dX2_unseen_57 (jfit.of (Nat.le_of_ble_eq_true rfl) (by decide) (Nat.zero_le _) (Nat.zero_le _) (Nat.le_of_ble_eq_true rfl)) rfl ?_
      refine j_iload C dX2_unseen_60 rfl ?_
      refine j_if_ne C dX2_unseen_62 (tgt := 74) (by decide) (fun c => ?_) (fun c => ?_)
      · replace h := im c h
        refine j_aload_n C dX2_unseen_74 rfl rfl ?_
        refine j_iload_n C dX2_unseen_75 rfl rfl ?_
        refine j_iload_n C dX2_unseen_76 rfl rfl ?_
        obtain ⟨v18, e17, h⟩ := ob h
        refine jm_Vi hκ C (mt_m_isSeen hκ G e17) hG_m_isSeen hy_m_isSeen rfl rfl dX2_unseen_77 (jfit.of (Nat.le_of_ble_eq_true rfl) (by decide) (Nat.zero_le _) (Nat.zero_le _) (Nat.le_of_ble_eq_true rfl)) rfl ?_
        refine j_if_eq C dX2_unseen_80 (tgt := 87) (by decide) (fun c => ?_) (fun c => ?_)
        · replace h := ip c h
          refine j_iconst C (v := 0) dX2_unseen_87 rfl ?_
          obtain ⟨rfl, rfl⟩ := sp2 h
          exact j_iret C dX2_unseen_88 (Nat.zero_le _) (Nat.zero_le _) ⟨rfl, rfl⟩
        replace h := im c h
        refine j_iconst C (v := 1) dX2_unseen_83 rfl ?_
        refine j_goto C dX2_unseen_84 (tgt := 88) (by decide) ?_
        obtain ⟨rfl, rfl⟩ := sp2 h
        exact j_iret C dX2_unseen_88 (Nat.zero_le _) (Nat.zero_le _) ⟨rfl, rfl⟩
      replace h := ip c h
      refine j_aload_n C dX2_unseen_65 rfl rfl ?_
      refine j_iload_n C dX2_unseen_66 rfl rfl ?_
      refine j_iload_n C dX2_unseen_67 rfl rfl ?_
      obtain ⟨v20, e19, h⟩ := ob h
      refine jm_Vi hκ C (mt_m_unseenFor hκ G e19) hG_m_unseenFor hy_m_unseenFor rfl rfl dX2_unseen_68 (jfit.of (Nat.le_of_ble_eq_true rfl) (by decide) (Nat.zero_le _) (Nat.zero_le _) (Nat.le_of_ble_eq_true rfl)) rfl ?_
      refine j_goto C dX2_unseen_71 (tgt := 88) (by decide) ?_
      obtain ⟨rfl, rfl⟩ := sp2 h
      exact j_iret C dX2_unseen_88 (Nat.zero_le _) (Nat.zero_le _) ⟨rfl, rfl⟩
    replace h := im c h
    refine j_iload C dX2_unseen_48 rfl ?_
    obtain ⟨rfl, rfl⟩ := sp2 h
    exact j_iret C dX2_unseen_50 (Nat.zero_le _) (Nat.zero_le _) ⟨rfl, rfl⟩
  replace h := ip c h
  refine j_iconst C (v := (-1)) dX2_unseen_33 rfl ?_
  obtain ⟨rfl, rfl⟩ := sp2 h
  exact j_iret C dX2_unseen_34 (Nat.zero_le _) (Nat.zero_le _) ⟨rfl, rfl⟩
/-! both -/
def m_both (p1 : Int32) (p2 : Int32) (p3 : Int32) : Option Int32 :=
  (if p1 = 6 then
  (if p2 = 0 then
  (if p3 = 0 then
  some 0
  else
  some 1)
  else
  some 1)
  else if p1 = 7 then
  (if p2 = 0 then
  some 0
  else
  (if p3 = 0 then
  some 0
  else
  some 1))
  else if p1 = 8 then
  (if p3 ≤ p2 then
  some 0
  else
  some 1)
  else if p1 = 9 then
  (if p2 = p3 then
  some 1
  else
  some 0)
  else if p1 = 10 then
  (if p2 ≤ p3 then
  some 0
  else
  some 1)
  else if p1 = 11 then
  some (p2 + p3)
  else if p1 = 12 then
  some (p2 - p3)
  else if p1 = 13 then
  some (p2 * p3)
  else if p1 = 14 then
  (if p3 = 0 then
  some 0
  else
  nz p3 (
  some (p2 / p3)))
  else 
  (if p3 = 0 then
  some 0
  else
  nz p3 (
  some (jrem p2 p3))))
theorem mt_m_both {κ : jK} (hκ : jStd κ) {w : jW} {p1 : Int32} {p2 : Int32} {p3 : Int32} {v : Int32} (h : m_both p1 p2 p3 = some v) : jM κ yX2_both (ws_ yX2_both cX2_both 3 (some .int)) 0 0 0 [.int p1, .int p2, .int p3] (w) (fun u w' => u = some (.int v) ∧ w' = w) := by
  rw [m_both] at h
  refine jM.of (by decide) rfl (Nat.le_of_ble_eq_true rfl) fun Γ C _ => ?_
  show J κ Γ (0, 0, 0, (fun u w' => u = some (.int v) ∧ w' = w)) 3 (w) 0 0 0 [some (.int p1), some (.int p2), some (.int p3)] []
  refine j_iload_n C dX2_both_0 rfl rfl ?_
  by_cases c1_0 : p1 = 6
  · replace h := ip c1_0 h
    refine j_tabEq C dX2_both_1 c1_0 (a := 6) rfl (by decide) (by decide) rfl (tgt := 52) (by decide) ?_
    refine j_iload_n C dX2_both_52 rfl rfl ?_
    refine j_if_ne C dX2_both_53 (tgt := 60) (by decide) (fun c => ?_) (fun c => ?_)
    · replace h := im c h
      refine j_iconst C (v := 1) dX2_both_60 rfl ?_
      refine j_goto C dX2_both_61 (tgt := 65) (by decide) ?_
      obtain rfl := sp1 h
      exact j_iret C dX2_both_65 (Nat.zero_le _) (Nat.zero_le _) ⟨rfl, rfl⟩
    replace h := ip c h
    refine j_iload_n C dX2_both_56 rfl rfl ?_
    refine j_if_eq C dX2_both_57 (tgt := 64) (by decide) (fun c => ?_) (fun c => ?_)
    · replace h := ip c h
      refine j_iconst C (v := 0) dX2_both_64 rfl ?_
      obtain rfl := sp1 h
      exact j_iret C dX2_both_65 (Nat.zero_le _) (Nat.zero_le _) ⟨rfl, rfl⟩
    replace h := im c h
    refine j_iconst C (v := 1) dX2_both_60 rfl ?_
    refine j_goto C dX2_both_61 (tgt := 65) (by decide) ?_
    obtain rfl := sp1 h
    exact j_iret C dX2_both_65 (Nat.zero_le _) (Nat.zero_le _) ⟨rfl, rfl⟩
  replace h := im c1_0 h
  by_cases c1_1 : p1 = 7
  · replace h := ip c1_1 h
    refine j_tabEq C dX2_both_1 c1_1 (a := 7) rfl (by decide) (by decide) rfl (tgt := 66) (by decide) ?_
    refine j_iload_n C dX2_both_66 rfl rfl ?_
    refine j_if_eq C dX2_both_67 (tgt := 78) (by decide) (fun c => ?_) (fun c => ?_)
    · replace h := ip c h
      refine j_iconst C (v := 0) dX2_both_78 rfl ?_
      obtain rfl := sp1 h
      exact j_iret C dX2_both_79 (Nat.zero_le _) (Nat.zero_le _) ⟨rfl, rfl⟩
    replace h := im c h
    refine j_iload_n C dX2_both_70 rfl rfl ?_
    refine j_if_eq C dX2_both_71 (tgt := 78) (by decide) (fun c => ?_) (fun c => ?_)
    · replace h := ip c h
      refine j_iconst C (v := 0) dX2_both_78 rfl ?_
      obtain rfl := sp1 h
      exact j_iret C dX2_both_79 (Nat.zero_le _) (Nat.zero_le _) ⟨rfl, rfl⟩
    replace h := im c h
    refine j_iconst C (v := 1) dX2_both_74 rfl ?_
    refine j_goto C dX2_both_75 (tgt := 79) (by decide) ?_
    obtain rfl := sp1 h
    exact j_iret C dX2_both_79 (Nat.zero_le _) (Nat.zero_le _) ⟨rfl, rfl⟩
  replace h := im c1_1 h
  by_cases c1_2 : p1 = 8
  · replace h := ip c1_2 h
    refine j_tabEq C dX2_both_1 c1_2 (a := 8) rfl (by decide) (by decide) rfl (tgt := 80) (by decide) ?_
    refine j_iload_n C dX2_both_80 rfl rfl ?_
    refine j_iload_n C dX2_both_81 rfl rfl ?_
    refine j_icmp_ge C dX2_both_82 (tgt := 89) (by decide) (fun c => ?_) (fun c => ?_)
    · replace h := ip c h
      refine j_iconst C (v := 0) dX2_both_89 rfl ?_
      obtain rfl := sp1 h
      exact j_iret C dX2_both_90 (Nat.zero_le _) (Nat.zero_le _) ⟨rfl, rfl⟩
    replace h := im c h
    refine j_iconst C (v := 1) dX2_both_85 rfl ?_
    refine j_goto C dX2_both_86 (tgt := 90) (by decide) ?_
    obtain rfl := sp1 h
    exact j_iret C dX2_both_90 (Nat.zero_le _) (Nat.zero_le _) ⟨rfl, rfl⟩
  replace h := im c1_2 h
  by_cases c1_3 : p1 = 9
  · replace h := ip c1_3 h
    refine j_tabEq C dX2_both_1 c1_3 (a := 9) rfl (by decide) (by decide) rfl (tgt := 91) (by decide) ?_
    refine j_iload_n C dX2_both_91 rfl rfl ?_
    refine j_iload_n C dX2_both_92 rfl rfl ?_
    refine j_icmp_ne C dX2_both_93 (tgt := 100) (by decide) (fun c => ?_) (fun c => ?_)
    · replace h := im c h
      refine j_iconst C (v := 0) dX2_both_100 rfl ?_
      obtain rfl := sp1 h
      exact j_iret C dX2_both_101 (Nat.zero_le _) (Nat.zero_le _) ⟨rfl, rfl⟩
    replace h := ip c h
    refine j_iconst C (v := 1) dX2_both_96 rfl ?_
    refine j_goto C dX2_both_97 (tgt := 101) (by decide) ?_
    obtain rfl := sp1 h
    exact j_iret C dX2_both_101 (Nat.zero_le _) (Nat.zero_le _) ⟨rfl, rfl⟩
  replace h := im c1_3 h
  by_cases c1_4 : p1 = 10
  · replace h := ip c1_4 h
    refine j_tabEq C dX2_both_1 c1_4 (a := 10) rfl (by decide) (by decide) rfl (tgt := 102) (by decide) ?_
    refine j_iload_n C dX2_both_102 rfl rfl ?_
    refine j_iload_n C dX2_both_103 rfl rfl ?_
    refine j_icmp_le C dX2_both_104 (tgt := 111) (by decide) (fun c => ?_) (fun c => ?_)
    · replace h := ip c h
      refine j_iconst C (v := 0) dX2_both_111 rfl ?_
      obtain rfl := sp1 h
      exact j_iret C dX2_both_112 (Nat.zero_le _) (Nat.zero_le _) ⟨rfl, rfl⟩
    replace h := im c h
    refine j_iconst C (v := 1) dX2_both_107 rfl ?_
    refine j_goto C dX2_both_108 (tgt := 112) (by decide) ?_
    obtain rfl := sp1 h
    exact j_iret C dX2_both_112 (Nat.zero_le _) (Nat.zero_le _) ⟨rfl, rfl⟩
  replace h := im c1_4 h
  by_cases c1_5 : p1 = 11
  · replace h := ip c1_5 h
    refine j_tabEq C dX2_both_1 c1_5 (a := 11) rfl (by decide) (by decide) rfl (tgt := 113) (by decide) ?_
    refine j_iload_n C dX2_both_113 rfl rfl ?_
    refine j_iload_n C dX2_both_114 rfl rfl ?_
    refine j_iadd C dX2_both_115 ?_
    obtain rfl := sp1 h
    exact j_iret C dX2_both_116 (Nat.zero_le _) (Nat.zero_le _) ⟨rfl, rfl⟩
  replace h := im c1_5 h
  by_cases c1_6 : p1 = 12
  · replace h := ip c1_6 h
    refine j_tabEq C dX2_both_1 c1_6 (a := 12) rfl (by decide) (by decide) rfl (tgt := 117) (by decide) ?_
    refine j_iload_n C dX2_both_117 rfl rfl ?_
    refine j_iload_n C dX2_both_118 rfl rfl ?_
    refine j_isub C dX2_both_119 ?_
    obtain rfl := sp1 h
    exact j_iret C dX2_both_120 (Nat.zero_le _) (Nat.zero_le _) ⟨rfl, rfl⟩
  replace h := im c1_6 h
  by_cases c1_7 : p1 = 13
  · replace h := ip c1_7 h
    refine j_tabEq C dX2_both_1 c1_7 (a := 13) rfl (by decide) (by decide) rfl (tgt := 121) (by decide) ?_
    refine j_iload_n C dX2_both_121 rfl rfl ?_
    refine j_iload_n C dX2_both_122 rfl rfl ?_
    refine j_imul C dX2_both_123 ?_
    obtain rfl := sp1 h
    exact j_iret C dX2_both_124 (Nat.zero_le _) (Nat.zero_le _) ⟨rfl, rfl⟩
  replace h := im c1_7 h
  by_cases c1_8 : p1 = 14
  · replace h := ip c1_8 h
    refine j_tabEq C dX2_both_1 c1_8 (a := 14) rfl (by decide) (by decide) rfl (tgt := 125) (by decide) ?_
    refine j_iload_n C dX2_both_125 rfl rfl ?_
    refine j_if_ne C dX2_both_126 (tgt := 133) (by decide) (fun c => ?_) (fun c => ?_)
    · replace h := im c h
      refine j_iload_n C dX2_both_133 rfl rfl ?_
      refine j_iload_n C dX2_both_134 rfl rfl ?_
      obtain ⟨z1, h⟩ := nz_some h
      refine j_idiv C dX2_both_135 z1 ?_
      obtain rfl := sp1 h
      exact j_iret C dX2_both_136 (Nat.zero_le _) (Nat.zero_le _) ⟨rfl, rfl⟩
    replace h := ip c h
    refine j_iconst C (v := 0) dX2_both_129 rfl ?_
    refine j_goto C dX2_both_130 (tgt := 136) (by decide) ?_
    obtain rfl := sp1 h
    exact j_iret C dX2_both_136 (Nat.zero_le _) (Nat.zero_le _) ⟨rfl, rfl⟩
  replace h := im c1_8 h
  refine j_tabDef C [6, 7, 8, 9, 10, 11, 12, 13, 14] dX2_both_1 ⟨tab_ne c1_0 rfl, tab_ne c1_1 rfl, tab_ne c1_2 rfl, tab_ne c1_3 rfl, tab_ne c1_4 rfl, tab_ne c1_5 rfl, tab_ne c1_6 rfl, tab_ne c1_7 rfl, tab_ne c1_8 rfl, trivial⟩ rfl rfl (tgt := 137) (by decide) ?_
  refine j_iload_n C dX2_both_137 rfl rfl ?_
  refine j_if_ne C dX2_both_138 (tgt := 145) (by decide) (fun c => ?_) (fun c => ?_)
  · replace h := im c h
    refine j_iload_n C dX2_both_145 rfl rfl ?_
    refine j_iload_n C dX2_both_146 rfl rfl ?_
    obtain ⟨z2, h⟩ := nz_some h
    refine j_irem C dX2_both_147 z2 ?_
    obtain rfl := sp1 h
    exact j_iret C dX2_both_148 (Nat.zero_le _) (Nat.zero_le _) ⟨rfl, rfl⟩
  replace h := ip c h
  refine j_iconst C (v := 0) dX2_both_141 rfl ?_
  refine j_goto C dX2_both_142 (tgt := 148) (by decide) ?_
  obtain rfl := sp1 h
  exact j_iret C dX2_both_148 (Nat.zero_le _) (Nat.zero_le _) ⟨rfl, rfl⟩
/-! worked -/
def m_worked_b81 (N : Nat) (l2 : Int32) (l3 : Int32) (l4 : Int32) (l5 : Int32) (k5 : MS → Int32 → Int32 → Option (Int32 × MS)) (T : MS) : Option (Int32 × MS) :=
  (if l5 = 17 then
  chk 200 (l3 - 1) (
  chk 200 (l3 - 1) (
  nm (sA T 22 (l3 - 1).toNatClampNeg (-(T.2.1 22 (l3 - 1).toNatClampNeg))) fun T9 =>
  nm (l4 + 1) fun x11 =>
  k5 T9 l3 x11))
  else
  chk 200 (l3 - 1) (
  (if (T.2.1 22 (l3 - 1).toNatClampNeg) = 0 then
  chk 200 (l3 - 1) (
  nm (sA T 22 (l3 - 1).toNatClampNeg 1) fun T5 =>
  nm (l4 + 1) fun x7 =>
  k5 T5 l3 x7)
  else
  chk 200 (l3 - 1) (
  nm (sA T 22 (l3 - 1).toNatClampNeg 0) fun T2 =>
  nm (l4 + 1) fun x4 =>
  k5 T2 l3 x4))))
theorem wm_worked_b81 {κ : jK} (hκ : jStd κ) (N : Nat) {Γ : jG} (C : jC κ Γ cX2_worked 6 RX2 (some .int)) {G : Nat → Nat} (l2 : Int32) (l3 : Int32) (l4 : Int32) (l5 : Int32) (k5 : MS → Int32 → Int32 → Option (Int32 × MS)) {v : Int32} {T' : MS} (hk5 : ∀ (T : MS) (l3 : Int32) (l4 : Int32), k5 T l3 l4 = some (v, T') → J κ Γ (1, 0, 0, (fun u w' => u = some (.int v) ∧ w' = wM κ G T')) 6 (wM κ G T) 0 0 5 [some (.ref (G 0)), none, some (.int l2), some (.int l3), some (.int l4), none] []) : ∀ (T : MS), m_worked_b81 N l2 l3 l4 l5 k5 T = some (v, T') → J κ Γ (1, 0, 0, (fun u w' => u = some (.int v) ∧ w' = wM κ G T')) 6 (wM κ G T) 0 0 81 [some (.ref (G 0)), none, some (.int l2), some (.int l3), some (.int l4), some (.int l5)] [] := by
  intro T h
  rw [m_worked_b81] at h
  refine j_aload_n C dX2_worked_81 rfl rfl ?_
  refine jm_geta hκ C 22 (by decide) rfl q1659 dX2_worked_82 ?_
  refine j_iload_n C dX2_worked_85 rfl rfl ?_
  refine j_iconst C (v := 1) dX2_worked_86 rfl ?_
  refine j_isub C dX2_worked_87 ?_
  refine j_iload C dX2_worked_88 rfl ?_
  refine j_bipush C (v := 17) dX2_worked_90 rfl ?_
  refine j_icmp_ne C dX2_worked_92 (tgt := 107) (by decide) (fun c => ?_) (fun c => ?_)
  · replace h := im c h
    refine j_aload_n C dX2_worked_107 rfl rfl ?_
    refine jm_geta hκ C 22 (by decide) rfl q1659 dX2_worked_108 ?_
    refine j_iload_n C dX2_worked_111 rfl rfl ?_
    refine j_iconst C (v := 1) dX2_worked_112 rfl ?_
    refine j_isub C dX2_worked_113 ?_
    obtain ⟨b1, h⟩ := chk_some h
    refine jm_iald hκ C 22 rfl b1 dX2_worked_114 ?_
    refine j_if_ne C dX2_worked_115 (tgt := 122) (by decide) (fun c => ?_) (fun c => ?_)
    · replace h := im c h
      refine j_iconst C (v := 0) dX2_worked_122 rfl ?_
      obtain ⟨b3, h⟩ := chk_some h
      refine jm_iast hκ C 22 rfl b3 dX2_worked_123 ?_
      refine jm_nmT h (fun T2 h => ?_)
      refine j_goto C dX2_worked_124 (tgt := 157) (by decide) ?_
      refine j_iincN C h dX2_worked_157 rfl rfl (by decide) rfl (fun x4 h => ?_)
      refine j_goto C dX2_worked_160 (tgt := 5) (by decide) ?_
      exact j_sub (hk5 _ _ _ h) ⟨rfl, ⟨rfl, ⟨rfl, ⟨rfl, trivial⟩⟩⟩⟩
    replace h := ip c h
    refine j_iconst C (v := 1) dX2_worked_118 rfl ?_
    refine j_goto C dX2_worked_119 (tgt := 123) (by decide) ?_
    obtain ⟨b6, h⟩ := chk_some h
    refine jm_iast hκ C 22 rfl b6 dX2_worked_123 ?_
    refine jm_nmT h (fun T5 h => ?_)
    refine j_goto C dX2_worked_124 (tgt := 157) (by decide) ?_
    refine j_iincN C h dX2_worked_157 rfl rfl (by decide) rfl (fun x7 h => ?_)
    refine j_goto C dX2_worked_160 (tgt := 5) (by decide) ?_
    exact j_sub (hk5 _ _ _ h) ⟨rfl, ⟨rfl, ⟨rfl, ⟨rfl, trivial⟩⟩⟩⟩
  replace h := ip c h
  refine j_aload_n C dX2_worked_95 rfl rfl ?_
  refine jm_geta hκ C 22 (by decide) rfl q1659 dX2_worked_96 ?_
  refine j_iload_n C dX2_worked_99 rfl rfl ?_
  refine j_iconst C (v := 1) dX2_worked_100 rfl ?_
  refine j_isub C dX2_worked_101 ?_
  obtain ⟨b8, h⟩ := chk_some h
  refine jm_iald hκ C 22 rfl b8 dX2_worked_102 ?_
  refine j_ineg C dX2_worked_103 ?_
  refine j_goto C dX2_worked_104 (tgt := 123) (by decide) ?_
  obtain ⟨b10, h⟩ := chk_some h
  refine jm_iast hκ C 22 rfl b10 dX2_worked_123 ?_
  refine jm_nmT h (fun T9 h => ?_)
  refine j_goto C dX2_worked_124 (tgt := 157) (by decide) ?_
  refine j_iincN C h dX2_worked_157 rfl rfl (by decide) rfl (fun x11 h => ?_)
  refine j_goto C dX2_worked_160 (tgt := 5) (by decide) ?_
  exact j_sub (hk5 _ _ _ h) ⟨rfl, ⟨rfl, ⟨rfl, ⟨rfl, trivial⟩⟩⟩⟩
def m_worked_b33 (N : Nat) (l2 : Int32) (l3 : Int32) (l4 : Int32) (l5 : Int32) (k5 : MS → Int32 → Int32 → Option (Int32 × MS)) (T : MS) : Option (Int32 × MS) :=
  nm (l3 + 1) fun x1 =>
  (if l5 < 18 then
  chk 6 l5 (
  chk 200 l3 (
  nm (sA T 22 l3.toNatClampNeg (T.2.1 23 l5.toNatClampNeg)) fun T3 =>
  nm (l4 + 1) fun x5 =>
  k5 T3 x1 x5))
  else
  chk 200 l3 (
  nm (sA T 22 l3.toNatClampNeg (l5 - 18)) fun T6 =>
  nm (l4 + 1) fun x8 =>
  k5 T6 x1 x8))
theorem wm_worked_b33 {κ : jK} (hκ : jStd κ) (N : Nat) {Γ : jG} (C : jC κ Γ cX2_worked 6 RX2 (some .int)) {G : Nat → Nat} (l2 : Int32) (l3 : Int32) (l4 : Int32) (l5 : Int32) (k5 : MS → Int32 → Int32 → Option (Int32 × MS)) {v : Int32} {T' : MS} (hk5 : ∀ (T : MS) (l3 : Int32) (l4 : Int32), k5 T l3 l4 = some (v, T') → J κ Γ (1, 0, 0, (fun u w' => u = some (.int v) ∧ w' = wM κ G T')) 6 (wM κ G T) 0 0 5 [some (.ref (G 0)), none, some (.int l2), some (.int l3), some (.int l4), none] []) : ∀ (T : MS), m_worked_b33 N l2 l3 l4 l5 k5 T = some (v, T') → J κ Γ (1, 0, 0, (fun u w' => u = some (.int v) ∧ w' = wM κ G T')) 6 (wM κ G T) 0 0 33 [some (.ref (G 0)), none, some (.int l2), some (.int l3), some (.int l4), some (.int l5)] [] := by
  intro T h
  rw [m_worked_b33] at h
  refine j_aload_n C dX2_worked_33 rfl rfl ?_
  refine jm_geta hκ C 22 (by decide) rfl q1659 dX2_worked_34 ?_
  refine j_iload_n C dX2_worked_37 rfl rfl ?_
  refine j_iincN C h dX2_worked_38 rfl rfl (by decide) rfl (fun x1 h => ?_)
  refine j_iload C dX2_worked_41 rfl ?_
  refine j_bipush C (v := 18) dX2_worked_43 rfl ?_
  refine j_icmp_lt C dX2_worked_45 (tgt := 56) (by decide) (fun c => ?_) (fun c => ?_)
  · replace h := ip c h
    refine j_aload_n C dX2_worked_56 rfl rfl ?_
    refine jm_geta hκ C 23 (by decide) rfl q1660 dX2_worked_57 ?_
    refine j_iload C dX2_worked_60 rfl ?_
    obtain ⟨b2, h⟩ := chk_some h
    refine jm_iald hκ C 23 rfl b2 dX2_worked_62 ?_
    obtain ⟨b4, h⟩ := chk_some h
    refine jm_iast hκ C 22 rfl b4 dX2_worked_63 ?_
    refine jm_nmT h (fun T3 h => ?_)
    refine j_goto C dX2_worked_64 (tgt := 157) (by decide) ?_
    refine j_iincN C h dX2_worked_157 rfl rfl (by decide) rfl (fun x5 h => ?_)
    refine j_goto C dX2_worked_160 (tgt := 5) (by decide) ?_
    exact j_sub (hk5 _ _ _ h) ⟨rfl, ⟨rfl, ⟨rfl, ⟨rfl, trivial⟩⟩⟩⟩
  replace h := im c h
  refine j_iload C dX2_worked_48 rfl ?_
  refine j_bipush C (v := 18) dX2_worked_50 rfl ?_
  refine j_isub C dX2_worked_52 ?_
  refine j_goto C dX2_worked_53 (tgt := 63) (by decide) ?_
  obtain ⟨b7, h⟩ := chk_some h
  refine jm_iast hκ C 22 rfl b7 dX2_worked_63 ?_
  refine jm_nmT h (fun T6 h => ?_)
  refine j_goto C dX2_worked_64 (tgt := 157) (by decide) ?_
  refine j_iincN C h dX2_worked_157 rfl rfl (by decide) rfl (fun x8 h => ?_)
  refine j_goto C dX2_worked_160 (tgt := 5) (by decide) ?_
  exact j_sub (hk5 _ _ _ h) ⟨rfl, ⟨rfl, ⟨rfl, ⟨rfl, trivial⟩⟩⟩⟩
def m_worked_b5 (N : Nat) (l2 : Int32) : Nat → MS → Int32 → Int32 → Option (Int32 × MS)
  | 0, _, _, _ => none
  | n + 1, T, l3, l4 =>
    (if l2 ≤ l4 then
    some (T.2.1 22 0, T)
    else
    chk 200 l4 (
    nm (T.2.1 13 l4.toNatClampNeg) fun x2 =>
    (if 18 ≤ x2 then
    m_worked_b33 N l2 l3 l4 x2 (fun t y3 y4 => m_worked_b5 N l2 n t y3 y4) T
    else
    (if 5 < x2 then
    (if x2 = 16 then
    m_worked_b81 N l2 l3 l4 x2 (fun t y3 y4 => m_worked_b5 N l2 n t y3 y4) T
    else
    (if x2 = 17 then
    m_worked_b81 N l2 l3 l4 x2 (fun t y3 y4 => m_worked_b5 N l2 n t y3 y4) T
    else
    nm (l3 + (-1)) fun x3 =>
    chk 200 (x3 - 1) (
    chk 200 x3 (
    (m_both x2 (T.2.1 22 (x3 - 1).toNatClampNeg) (T.2.1 22 x3.toNatClampNeg)).bind fun v7 =>
    chk 200 (x3 - 1) (
    nm (sA T 22 (x3 - 1).toNatClampNeg v7) fun T8 =>
    nm (l4 + 1) fun x10 =>
    m_worked_b5 N l2 n T8 x3 x10)))))
    else
    m_worked_b33 N l2 l3 l4 x2 (fun t y3 y4 => m_worked_b5 N l2 n t y3 y4) T))))
theorem wm_worked_b5 {κ : jK} (hκ : jStd κ) (N : Nat) {Γ : jG} (C : jC κ Γ cX2_worked 6 RX2 (some .int)) {G : Nat → Nat} (l2 : Int32) {v : Int32} {T' : MS} : ∀ (n : Nat) (T : MS) (l3 : Int32) (l4 : Int32), m_worked_b5 N l2 n T l3 l4 = some (v, T') → J κ Γ (1, 0, 0, (fun u w' => u = some (.int v) ∧ w' = wM κ G T')) 6 (wM κ G T) 0 0 5 [some (.ref (G 0)), none, some (.int l2), some (.int l3), some (.int l4), none] [] := by
  intro n
  induction n with
  | zero => intro _ _ _ h; cases h
  | succ n ih =>
    intro T l3 l4 h
    rw [m_worked_b5] at h
    refine j_iload C dX2_worked_5 rfl ?_
    refine j_iload_n C dX2_worked_7 rfl rfl ?_
    refine j_icmp_ge C dX2_worked_8 (tgt := 163) (by decide) (fun c => ?_) (fun c => ?_)
    · replace h := ip c h
      refine j_aload_n C dX2_worked_163 rfl rfl ?_
      refine jm_geta hκ C 22 (by decide) rfl q1659 dX2_worked_164 ?_
      refine j_iconst C (v := 0) dX2_worked_167 rfl ?_
      refine jm_ialdK hκ C 22 0 rfl rfl (vp_k rfl) dX2_worked_168 ?_
      obtain ⟨rfl, rfl⟩ := sp2 h
      exact j_iret C dX2_worked_169 (Nat.zero_le _) (Nat.zero_le _) ⟨rfl, rfl⟩
    replace h := im c h
    refine j_aload_n C dX2_worked_11 rfl rfl ?_
    refine jm_geta hκ C 13 (by decide) rfl q1650 dX2_worked_12 ?_
    refine j_iload C dX2_worked_15 rfl ?_
    obtain ⟨b1, h⟩ := chk_some h
    refine jm_iald hκ C 13 rfl b1 dX2_worked_17 ?_
    refine j_nmI h (fun x2 h => ?_)
    refine j_istore C dX2_worked_18 (by decide) rfl ?_
    refine j_iload C dX2_worked_20 rfl ?_
    refine j_bipush C (v := 18) dX2_worked_22 rfl ?_
    refine j_icmp_ge C dX2_worked_24 (tgt := 33) (by decide) (fun c => ?_) (fun c => ?_)
    · replace h := ip c h
      exact j_sub (wm_worked_b33 hκ N C _ _ _ _ _ (fun _ _ _ h => ih _ _ _ h) _ h) ⟨rfl, ⟨rfl, ⟨rfl, ⟨rfl, ⟨rfl, trivial⟩⟩⟩⟩⟩
    replace h := im c h
    refine j_iload C dX2_worked_27 rfl ?_
    refine j_iconst C (v := 5) dX2_worked_29 rfl ?_
    refine j_icmp_gt C dX2_worked_30 (tgt := 67) (by decide) (fun c => ?_) (fun c => ?_)
    · replace h := ip c h
      refine j_iload C dX2_worked_67 rfl ?_
      refine j_bipush C (v := 16) dX2_worked_69 rfl ?_
      refine j_icmp_eq C dX2_worked_71 (tgt := 81) (by decide) (fun c => ?_) (fun c => ?_)
      · replace h := ip c h
        exact j_sub (wm_worked_b81 hκ N C _ _ _ _ _ (fun _ _ _ h => ih _ _ _ h) _ h) ⟨rfl, ⟨rfl, ⟨rfl, ⟨rfl, ⟨rfl, trivial⟩⟩⟩⟩⟩
      replace h := im c h
      refine j_iload C dX2_worked_74 rfl ?_
      refine j_bipush C (v := 17) dX2_worked_76 rfl ?_
      refine j_icmp_ne C dX2_worked_78 (tgt := 127) (by decide) (fun c => ?_) (fun c => ?_)
      · replace h := im c h
        refine j_iincN C h dX2_worked_127 rfl rfl (by decide) rfl (fun x3 h => ?_)
        refine j_aload_n C dX2_worked_130 rfl rfl ?_
        refine jm_geta hκ C 22 (by decide) rfl q1659 dX2_worked_131 ?_
        refine j_iload_n C dX2_worked_134 rfl rfl ?_
        refine j_iconst C (v := 1) dX2_worked_135 rfl ?_
        refine j_isub C dX2_worked_136 ?_
        refine j_iload C dX2_worked_137 rfl ?_
        refine j_aload_n C dX2_worked_139 rfl rfl ?_
        refine jm_geta hκ C 22 (by decide) rfl q1659 dX2_worked_140 ?_
        refine j_iload_n C dX2_worked_143 rfl rfl ?_
        refine j_iconst C (v := 1) dX2_worked_144 rfl ?_
        refine j_isub C dX2_worked_145 ?_
        obtain ⟨b4, h⟩ := chk_some h
        refine jm_iald hκ C 22 rfl b4 dX2_worked_146 ?_
        refine j_aload_n C dX2_worked_147 rfl rfl ?_
        refine jm_geta hκ C 22 (by decide) rfl q1659 dX2_worked_148 ?_
        refine j_iload_n C dX2_worked_151 rfl rfl ?_
        obtain ⟨b5, h⟩ := chk_some h
        refine jm_iald hκ C 22 rfl b5 dX2_worked_152 ?_
        obtain ⟨v7, e6, h⟩ := ob h
        refine j_Si hκ.1 C (mt_m_both hκ e6) hG_m_both hy_m_both rfl dX2_worked_153 (jfit.of (Nat.le_of_ble_eq_true rfl) (by decide) (Nat.zero_le _) (Nat.zero_le _) (Nat.le_of_ble_eq_true rfl)) rfl ?_
        obtain ⟨b9, h⟩ := chk_some h
        refine jm_iast hκ C 22 rfl b9 dX2_worked_156 ?_
        refine jm_nmT h (fun T8 h => ?_)
        refine j_iincN C h dX2_worked_157 rfl rfl (by decide) rfl (fun x10 h => ?_)
        refine j_goto C dX2_worked_160 (tgt := 5) (by decide) ?_
        exact j_sub (ih _ _ _ h) ⟨rfl, ⟨rfl, ⟨rfl, ⟨rfl, trivial⟩⟩⟩⟩
      replace h := ip c h
      exact j_sub (wm_worked_b81 hκ N C _ _ _ _ _ (fun _ _ _ h => ih _ _ _ h) _ h) ⟨rfl, ⟨rfl, ⟨rfl, ⟨rfl, ⟨rfl, trivial⟩⟩⟩⟩⟩
    replace h := im c h
    exact j_sub (wm_worked_b33 hκ N C _ _ _ _ _ (fun _ _ _ h => ih _ _ _ h) _ h) ⟨rfl, ⟨rfl, ⟨rfl, ⟨rfl, ⟨rfl, trivial⟩⟩⟩⟩⟩
def m_worked (N : Nat) (T : MS) (p1 : Int32) (p2 : Int32) : Option (Int32 × MS) :=
  m_worked_b5 N p2 N T 0 p1
theorem mt_m_worked {κ : jK} (hκ : jStd κ) (N : Nat) (G : Nat → Nat) {T : MS} {p1 : Int32} {p2 : Int32} {v : Int32} {T' : MS} (h : m_worked N T p1 p2 = some (v, T')) : jM κ yX2_worked (ws_ yX2_worked cX2_worked 6 (some .int)) 1 0 0 [.ref (G 0), .int p1, .int p2] (wM κ G T) (fun u w' => u = some (.int v) ∧ w' = wM κ G T') := by
  rw [m_worked] at h
  refine jM.of (by decide) rfl (Nat.le_of_ble_eq_true rfl) fun Γ C _ => ?_
  show J κ Γ (1, 0, 0, (fun u w' => u = some (.int v) ∧ w' = wM κ G T')) 6 (wM κ G T) 0 0 0 [some (.ref (G 0)), some (.int p1), some (.int p2), none, none, none] []
  refine j_iconst C (v := 0) dX2_worked_0 rfl ?_
  refine j_istore_n C dX2_worked_1 rfl (by decide) rfl ?_
  refine j_iload_n C dX2_worked_2 rfl rfl ?_
  refine j_istore C dX2_worked_3 (by decide) rfl ?_
  exact j_sub (wm_worked_b5 hκ N C _ N _ _ _ h) ⟨rfl, ⟨rfl, ⟨rfl, ⟨rfl, trivial⟩⟩⟩⟩
/-! loss -/
def m_loss_b132 (N : Nat) (l4 : Int32) (T : MS) : Option (Int32 × MS) :=
  chk 60 l4 (
  chk 60 l4 (
  b2 (m_worked N T (T.2.1 11 l4.toNatClampNeg) (T.2.1 12 l4.toNatClampNeg)) fun v4 T5 =>
  some ((jmax 0 (jmin 99 v4)), T5)))
theorem wm_loss_b132 {κ : jK} (hκ : jStd κ) (N : Nat) {Γ : jG} (C : jC κ Γ cX2_loss 5 RX2 (some .int)) {G : Nat → Nat} (l4 : Int32) {v : Int32} {T' : MS} : ∀ (T : MS), m_loss_b132 N l4 T = some (v, T') → J κ Γ (2, 0, 0, (fun u w' => u = some (.int v) ∧ w' = wM κ G T')) 5 (wM κ G T) 0 0 132 [some (.ref (G 0)), none, none, none, some (.int l4)] [] := by
  intro T h
  rw [m_loss_b132] at h
  refine j_iconst C (v := 0) dX2_loss_132 rfl ?_
  refine j_bipush C (v := 99) dX2_loss_133 rfl ?_
  refine j_aload_n C dX2_loss_135 rfl rfl ?_
  refine j_aload_n C dX2_loss_136 rfl rfl ?_
  refine jm_geta hκ C 11 (by decide) rfl q1648 dX2_loss_137 ?_
  refine j_iload C dX2_loss_140 rfl ?_
  obtain ⟨b1, h⟩ := chk_some h
  refine jm_iald hκ C 11 rfl b1 dX2_loss_142 ?_
  refine j_aload_n C dX2_loss_143 rfl rfl ?_
  refine jm_geta hκ C 12 (by decide) rfl q1649 dX2_loss_144 ?_
  refine j_iload C dX2_loss_147 rfl ?_
  obtain ⟨b2, h⟩ := chk_some h
  refine jm_iald hκ C 12 rfl b2 dX2_loss_149 ?_
  obtain ⟨v4, T5, e3, h⟩ := ob2 h
  refine jm_Vi hκ C (mt_m_worked hκ N G e3) hG_m_worked hy_m_worked rfl rfl dX2_loss_150 (jfit.of (Nat.le_of_ble_eq_true rfl) (by decide) (Nat.zero_le _) (Nat.zero_le _) (Nat.le_of_ble_eq_true rfl)) rfl ?_
  refine j_mmin C dX2_loss_153 q1986 q698 q129 q699 (Nat.le_of_ble_eq_true rfl) (Nat.le_of_ble_eq_true rfl) (Nat.zero_le _) (Nat.zero_le _) ?_
  refine j_mmax C dX2_loss_156 q1977 q695 q129 q696 (Nat.le_of_ble_eq_true rfl) (Nat.le_of_ble_eq_true rfl) (Nat.zero_le _) (Nat.zero_le _) ?_
  obtain ⟨rfl, rfl⟩ := sp2 h
  exact j_iret C dX2_loss_159 (Nat.zero_le _) (Nat.zero_le _) ⟨rfl, rfl⟩
def m_loss_b82 (N : Nat) : Nat → MS → Int32 → Option (Int32 × MS)
  | 0, _, _ => none
  | n + 1, T, l4 =>
    (if (T.1 9) ≤ l4 then
    some (0, T)
    else
    chk 60 l4 (
    chk 60 l4 (
    (if (T.2.1 11 l4.toNatClampNeg) ≤ (T.2.1 10 l4.toNatClampNeg) then
    m_loss_b132 N l4 T
    else
    chk 60 l4 (
    chk 60 l4 (
    b2 (m_worked N T (T.2.1 10 l4.toNatClampNeg) (T.2.1 11 l4.toNatClampNeg)) fun v6 T7 =>
    (if v6 = 0 then
    nm (l4 + 1) fun x8 =>
    m_loss_b82 N n T7 x8
    else
    m_loss_b132 N l4 T7)))))))
theorem wm_loss_b82 {κ : jK} (hκ : jStd κ) (N : Nat) {Γ : jG} (C : jC κ Γ cX2_loss 5 RX2 (some .int)) {G : Nat → Nat}  {v : Int32} {T' : MS} : ∀ (n : Nat) (T : MS) (l4 : Int32), m_loss_b82 N n T l4 = some (v, T') → J κ Γ (2, 0, 0, (fun u w' => u = some (.int v) ∧ w' = wM κ G T')) 5 (wM κ G T) 0 0 82 [some (.ref (G 0)), none, none, none, some (.int l4)] [] := by
  intro n
  induction n with
  | zero => intro _ _ h; cases h
  | succ n ih =>
    intro T l4 h
    rw [m_loss_b82] at h
    refine j_iload C dX2_loss_82 rfl ?_
    refine j_aload_n C dX2_loss_84 rfl rfl ?_
    refine jm_geti hκ C 9 (by decide) rfl q1646 dX2_loss_85 ?_
    refine j_icmp_ge C dX2_loss_88 (tgt := 166) (by decide) (fun c => ?_) (fun c => ?_)
    · replace h := ip c h
      refine j_iconst C (v := 0) dX2_loss_166 rfl ?_
      obtain ⟨rfl, rfl⟩ := sp2 h
      exact j_iret C dX2_loss_167 (Nat.zero_le _) (Nat.zero_le _) ⟨rfl, rfl⟩
    replace h := im c h
    refine j_aload_n C dX2_loss_91 rfl rfl ?_
    refine jm_geta hκ C 11 (by decide) rfl q1648 dX2_loss_92 ?_
    refine j_iload C dX2_loss_95 rfl ?_
    obtain ⟨b1, h⟩ := chk_some h
    refine jm_iald hκ C 11 rfl b1 dX2_loss_97 ?_
    refine j_aload_n C dX2_loss_98 rfl rfl ?_
    refine jm_geta hκ C 10 (by decide) rfl q1647 dX2_loss_99 ?_
    refine j_iload C dX2_loss_102 rfl ?_
    obtain ⟨b2, h⟩ := chk_some h
    refine jm_iald hκ C 10 rfl b2 dX2_loss_104 ?_
    refine j_icmp_le C dX2_loss_105 (tgt := 132) (by decide) (fun c => ?_) (fun c => ?_)
    · replace h := ip c h
      exact j_sub (wm_loss_b132 hκ N C _ _ h) ⟨rfl, ⟨rfl, trivial⟩⟩
    replace h := im c h
    refine j_aload_n C dX2_loss_108 rfl rfl ?_
    refine j_aload_n C dX2_loss_109 rfl rfl ?_
    refine jm_geta hκ C 10 (by decide) rfl q1647 dX2_loss_110 ?_
    refine j_iload C dX2_loss_113 rfl ?_
    obtain ⟨b3, h⟩ := chk_some h
    refine jm_iald hκ C 10 rfl b3 dX2_loss_115 ?_
    refine j_aload_n C dX2_loss_116 rfl rfl ?_
    refine jm_geta hκ C 11 (by decide) rfl q1648 dX2_loss_117 ?_
    refine j_iload C dX2_loss_120 rfl ?_
    obtain ⟨b4, h⟩ := chk_some h
    refine jm_iald hκ C 11 rfl b4 dX2_loss_122 ?_
    obtain ⟨v6, T7, e5, h⟩ := ob2 h
    refine jm_Vi hκ C (mt_m_worked hκ N G e5) hG_m_worked hy_m_worked rfl rfl dX2_loss_123 (jfit.of (Nat.le_of_ble_eq_true rfl) (by decide) (Nat.zero_le _) (Nat.zero_le _) (Nat.le_of_ble_eq_true rfl)) rfl ?_
    refine j_if_ne C dX2_loss_126 (tgt := 132) (by decide) (fun c => ?_) (fun c => ?_)
    · replace h := im c h
      exact j_sub (wm_loss_b132 hκ N C _ _ h) ⟨rfl, ⟨rfl, trivial⟩⟩
    replace h := ip c h
    refine j_goto C dX2_loss_129 (tgt := 160) (by decide) ?_
    refine j_iincN C h dX2_loss_160 rfl rfl (by decide) rfl (fun x8 h => ?_)
    refine j_goto C dX2_loss_163 (tgt := 82) (by decide) ?_
    exact j_sub (ih _ _ h) ⟨rfl, ⟨rfl, trivial⟩⟩
def m_loss (N : Nat) (T : MS) (p1 : Int32) (p2 : Int32) (p3 : Int32) : Option (Int32 × MS) :=
  (if (T.1 8) = 0 then
  chk 9 p1 (
  some ((jmin 99 (((T.2.1 3 p1.toNatClampNeg) * p2) / 10)), T))
  else
  chk 9 p1 (
  nm (sA T 23 0 (T.2.1 3 p1.toNatClampNeg)) fun T2 =>
  nm (sA T2 23 1 p2) fun T3 =>
  nm (sA T3 23 2 p3) fun T4 =>
  chk 9 p1 (
  nm (sA T4 23 3 (T4.2.1 4 p1.toNatClampNeg)) fun T6 =>
  nm (sA T6 23 4 p1) fun T7 =>
  nm (sA T7 23 5 (T7.1 44)) fun T8 =>
  m_loss_b82 N N T8 0)))
theorem mt_m_loss {κ : jK} (hκ : jStd κ) (N : Nat) (G : Nat → Nat) {T : MS} {p1 : Int32} {p2 : Int32} {p3 : Int32} {v : Int32} {T' : MS} (h : m_loss N T p1 p2 p3 = some (v, T')) : jM κ yX2_loss (ws_ yX2_loss cX2_loss 5 (some .int)) 2 0 0 [.ref (G 0), .int p1, .int p2, .int p3] (wM κ G T) (fun u w' => u = some (.int v) ∧ w' = wM κ G T') := by
  rw [m_loss] at h
  refine jM.of (by decide) rfl (Nat.le_of_ble_eq_true rfl) fun Γ C _ => ?_
  show J κ Γ (2, 0, 0, (fun u w' => u = some (.int v) ∧ w' = wM κ G T')) 5 (wM κ G T) 0 0 0 [some (.ref (G 0)), some (.int p1), some (.int p2), some (.int p3), none] []
  refine j_aload_n C dX2_loss_0 rfl rfl ?_
  refine jm_geti hκ C 8 (by decide) rfl q1645 dX2_loss_1 ?_
  refine j_if_ne C dX2_loss_4 (tgt := 24) (by decide) (fun c => ?_) (fun c => ?_)
  · replace h := im c h
    refine j_aload_n C dX2_loss_24 rfl rfl ?_
    refine jm_geta hκ C 23 (by decide) rfl q1660 dX2_loss_25 ?_
    refine j_iconst C (v := 0) dX2_loss_28 rfl ?_
    refine j_aload_n C dX2_loss_29 rfl rfl ?_
    refine jm_geta hκ C 3 (by decide) rfl q1640 dX2_loss_30 ?_
    refine j_iload_n C dX2_loss_33 rfl rfl ?_
    obtain ⟨b1, h⟩ := chk_some h
    refine jm_iald hκ C 3 rfl b1 dX2_loss_34 ?_
    refine jm_iastK hκ C 23 0 rfl rfl (vp_k rfl) dX2_loss_35 ?_
    refine jm_nmT h (fun T2 h => ?_)
    refine j_aload_n C dX2_loss_36 rfl rfl ?_
    refine jm_geta hκ C 23 (by decide) rfl q1660 dX2_loss_37 ?_
    refine j_iconst C (v := 1) dX2_loss_40 rfl ?_
    refine j_iload_n C dX2_loss_41 rfl rfl ?_
    refine jm_iastK hκ C 23 1 rfl rfl (vp_k rfl) dX2_loss_42 ?_
    refine jm_nmT h (fun T3 h => ?_)
    refine j_aload_n C dX2_loss_43 rfl rfl ?_
    refine jm_geta hκ C 23 (by decide) rfl q1660 dX2_loss_44 ?_
    refine j_iconst C (v := 2) dX2_loss_47 rfl ?_
    refine j_iload_n C dX2_loss_48 rfl rfl ?_
    refine jm_iastK hκ C 23 2 rfl rfl (vp_k rfl) dX2_loss_49 ?_
    refine jm_nmT h (fun T4 h => ?_)
    refine j_aload_n C dX2_loss_50 rfl rfl ?_
    refine jm_geta hκ C 23 (by decide) rfl q1660 dX2_loss_51 ?_
    refine j_iconst C (v := 3) dX2_loss_54 rfl ?_
    refine j_aload_n C dX2_loss_55 rfl rfl ?_
    refine jm_geta hκ C 4 (by decide) rfl q1641 dX2_loss_56 ?_
    refine j_iload_n C dX2_loss_59 rfl rfl ?_
    obtain ⟨b5, h⟩ := chk_some h
    refine jm_iald hκ C 4 rfl b5 dX2_loss_60 ?_
    refine jm_iastK hκ C 23 3 rfl rfl (vp_k rfl) dX2_loss_61 ?_
    refine jm_nmT h (fun T6 h => ?_)
    refine j_aload_n C dX2_loss_62 rfl rfl ?_
    refine jm_geta hκ C 23 (by decide) rfl q1660 dX2_loss_63 ?_
    refine j_iconst C (v := 4) dX2_loss_66 rfl ?_
    refine j_iload_n C dX2_loss_67 rfl rfl ?_
    refine jm_iastK hκ C 23 4 rfl rfl (vp_k rfl) dX2_loss_68 ?_
    refine jm_nmT h (fun T7 h => ?_)
    refine j_aload_n C dX2_loss_69 rfl rfl ?_
    refine jm_geta hκ C 23 (by decide) rfl q1660 dX2_loss_70 ?_
    refine j_iconst C (v := 5) dX2_loss_73 rfl ?_
    refine j_aload_n C dX2_loss_74 rfl rfl ?_
    refine jm_geti hκ C 44 (by decide) rfl q1681 dX2_loss_75 ?_
    refine jm_iastK hκ C 23 5 rfl rfl (vp_k rfl) dX2_loss_78 ?_
    refine jm_nmT h (fun T8 h => ?_)
    refine j_iconst C (v := 0) dX2_loss_79 rfl ?_
    refine j_istore C dX2_loss_80 (by decide) rfl ?_
    exact j_sub (wm_loss_b82 hκ N C N _ _ h) ⟨rfl, ⟨rfl, trivial⟩⟩
  replace h := ip c h
  refine j_bipush C (v := 99) dX2_loss_7 rfl ?_
  refine j_aload_n C dX2_loss_9 rfl rfl ?_
  refine jm_geta hκ C 3 (by decide) rfl q1640 dX2_loss_10 ?_
  refine j_iload_n C dX2_loss_13 rfl rfl ?_
  obtain ⟨b9, h⟩ := chk_some h
  refine jm_iald hκ C 3 rfl b9 dX2_loss_14 ?_
  refine j_iload_n C dX2_loss_15 rfl rfl ?_
  refine j_imul C dX2_loss_16 ?_
  refine j_bipush C (v := 10) dX2_loss_17 rfl ?_
  refine j_idiv C dX2_loss_19 (by decide) ?_
  refine j_mmin C dX2_loss_20 q1986 q698 q129 q699 (Nat.le_of_ble_eq_true rfl) (Nat.le_of_ble_eq_true rfl) (Nat.zero_le _) (Nat.zero_le _) ?_
  obtain ⟨rfl, rfl⟩ := sp2 h
  exact j_iret C dX2_loss_23 (Nat.zero_le _) (Nat.zero_le _) ⟨rfl, rfl⟩
/-! lost -/
def m_lost_b105 (N : Nat) (l2 : Int32) (l3 : Int32) (l4 : Int32) (l6 : Int32) (l7 : Int32) (l8 : Int32) (k87 : MS → Int32 → Int32 → Option (Int32 × MS)) (k75 : MS → Int32 → Int32 → Option (Int32 × MS)) (T : MS) : Option (Int32 × MS) :=
  (m_isSeen T l7 l8).bind fun v2 =>
  (if (b2i v2) = 0 then
  (m_unseenFor T l7 l8).bind fun v5 =>
  b2 (m_loss N T l7 v5 l8) fun v7 T8 =>
  nm (l6 + v7) fun x9 =>
  nm (l8 + 1) fun x10 =>
  k87 T8 x9 x10
  else
  nm (l8 + 1) fun x3 =>
  k87 T l6 x3)
theorem wm_lost_b105 {κ : jK} (hκ : jStd κ) (N : Nat) {Γ : jG} (C : jC κ Γ cX2_lost 9 RX2 (some .int)) {G : Nat → Nat} (l2 : Int32) (l3 : Int32) (l4 : Int32) (l6 : Int32) (l7 : Int32) (l8 : Int32) (k87 : MS → Int32 → Int32 → Option (Int32 × MS)) (k75 : MS → Int32 → Int32 → Option (Int32 × MS)) {v : Int32} {T' : MS} (hk87 : ∀ (T : MS) (l6 : Int32) (l8 : Int32), k87 T l6 l8 = some (v, T') → J κ Γ (5, 0, 0, (fun u w' => u = some (.int v) ∧ w' = wM κ G T')) 9 (wM κ G T) 0 0 87 [some (.ref (G 0)), none, some (.int l2), some (.int l3), some (.int l4), none, some (.int l6), some (.int l7), some (.int l8)] []) (hk75 : ∀ (T : MS) (l6 : Int32) (l7 : Int32), k75 T l6 l7 = some (v, T') → J κ Γ (5, 0, 0, (fun u w' => u = some (.int v) ∧ w' = wM κ G T')) 9 (wM κ G T) 0 0 75 [some (.ref (G 0)), none, some (.int l2), some (.int l3), some (.int l4), none, some (.int l6), some (.int l7), none] []) : ∀ (T : MS), m_lost_b105 N l2 l3 l4 l6 l7 l8 k87 k75 T = some (v, T') → J κ Γ (5, 0, 0, (fun u w' => u = some (.int v) ∧ w' = wM κ G T')) 9 (wM κ G T) 0 0 105 [some (.ref (G 0)), none, some (.int l2), some (.int l3), some (.int l4), none, some (.int l6), some (.int l7), some (.int l8)] [] := by
  intro T h
  rw [m_lost_b105] at h
  refine j_aload_n C dX2_lost_105 rfl rfl ?_
  refine j_iload C dX2_lost_106 rfl ?_
  refine j_iload C dX2_lost_108 rfl ?_
  obtain ⟨v2, e1, h⟩ := ob h
  refine jm_Vi hκ C (mt_m_isSeen hκ G e1) hG_m_isSeen hy_m_isSeen rfl rfl dX2_lost_110 (jfit.of (Nat.le_of_ble_eq_true rfl) (by decide) (Nat.zero_le _) (Nat.zero_le _) (Nat.le_of_ble_eq_true rfl)) rfl ?_
  refine j_if_ne C dX2_lost_113 (tgt := 137) (by decide) (fun c => ?_) (fun c => ?_)
  · replace h := im c h
    refine j_iincN C h dX2_lost_137 rfl rfl (by decide) rfl (fun x3 h => ?_)
    refine j_goto C dX2_lost_140 (tgt := 87) (by decide) ?_
    exact j_sub (hk87 _ _ _ h) ⟨rfl, ⟨rfl, ⟨rfl, ⟨rfl, ⟨rfl, ⟨rfl, ⟨rfl, trivial⟩⟩⟩⟩⟩⟩⟩
  replace h := ip c h
  refine j_iload C dX2_lost_116 rfl ?_
  refine j_aload_n C dX2_lost_118 rfl rfl ?_
  refine j_iload C dX2_lost_119 rfl ?_
  refine j_aload_n C dX2_lost_121 rfl rfl ?_
  refine j_iload C dX2_lost_122 rfl ?_
  refine j_iload C dX2_lost_124 rfl ?_
  obtain ⟨v5, e4, h⟩ := ob h
  refine jm_Vi hκ C (mt_m_unseenFor hκ G e4) hG_m_unseenFor hy_m_unseenFor rfl rfl dX2_lost_126 (jfit.of (Nat.le_of_ble_eq_true rfl) (by decide) (Nat.zero_le _) (Nat.zero_le _) (Nat.le_of_ble_eq_true rfl)) rfl ?_
  refine j_iload C dX2_lost_129 rfl ?_
  obtain ⟨v7, T8, e6, h⟩ := ob2 h
  refine jm_Vi hκ C (mt_m_loss hκ N G e6) hG_m_loss hy_m_loss rfl rfl dX2_lost_131 (jfit.of (Nat.le_of_ble_eq_true rfl) (by decide) (Nat.zero_le _) (Nat.zero_le _) (Nat.le_of_ble_eq_true rfl)) rfl ?_
  refine j_iadd C dX2_lost_134 ?_
  refine j_nmI h (fun x9 h => ?_)
  refine j_istore C dX2_lost_135 (by decide) rfl ?_
  refine j_iincN C h dX2_lost_137 rfl rfl (by decide) rfl (fun x10 h => ?_)
  refine j_goto C dX2_lost_140 (tgt := 87) (by decide) ?_
  exact j_sub (hk87 _ _ _ h) ⟨rfl, ⟨rfl, ⟨rfl, ⟨rfl, ⟨rfl, ⟨rfl, ⟨rfl, trivial⟩⟩⟩⟩⟩⟩⟩
def m_lost_b87 (N : Nat) (l2 : Int32) (l3 : Int32) (l4 : Int32) (l7 : Int32) (k75 : MS → Int32 → Int32 → Option (Int32 × MS)) : Nat → MS → Int32 → Int32 → Option (Int32 × MS)
  | 0, _, _, _ => none
  | n + 1, T, l6, l8 =>
    (if l4 < l8 then
    nm (l7 + 1) fun x1 =>
    k75 T l6 x1
    else
    (if l2 = (-1) then
    m_lost_b105 N l2 l3 l4 l6 l7 l8 (fun t y6 y8 => m_lost_b87 N l2 l3 l4 l7 k75 n t y6 y8) k75 T
    else
    (if l2 = l7 then
    m_lost_b105 N l2 l3 l4 l6 l7 l8 (fun t y6 y8 => m_lost_b87 N l2 l3 l4 l7 k75 n t y6 y8) k75 T
    else
    nm (l8 + 1) fun x2 =>
    m_lost_b87 N l2 l3 l4 l7 k75 n T l6 x2)))
theorem wm_lost_b87 {κ : jK} (hκ : jStd κ) (N : Nat) {Γ : jG} (C : jC κ Γ cX2_lost 9 RX2 (some .int)) {G : Nat → Nat} (l2 : Int32) (l3 : Int32) (l4 : Int32) (l7 : Int32) (k75 : MS → Int32 → Int32 → Option (Int32 × MS)) {v : Int32} {T' : MS} (hk75 : ∀ (T : MS) (l6 : Int32) (l7 : Int32), k75 T l6 l7 = some (v, T') → J κ Γ (5, 0, 0, (fun u w' => u = some (.int v) ∧ w' = wM κ G T')) 9 (wM κ G T) 0 0 75 [some (.ref (G 0)), none, some (.int l2), some (.int l3), some (.int l4), none, some (.int l6), some (.int l7), none] []) : ∀ (n : Nat) (T : MS) (l6 : Int32) (l8 : Int32), m_lost_b87 N l2 l3 l4 l7 k75 n T l6 l8 = some (v, T') → J κ Γ (5, 0, 0, (fun u w' => u = some (.int v) ∧ w' = wM κ G T')) 9 (wM κ G T) 0 0 87 [some (.ref (G 0)), none, some (.int l2), some (.int l3), some (.int l4), none, some (.int l6), some (.int l7), some (.int l8)] [] := by
  intro n
  induction n with
  | zero => intro _ _ _ h; cases h
  | succ n ih =>
    intro T l6 l8 h
    rw [m_lost_b87] at h
    refine j_iload C dX2_lost_87 rfl ?_
    refine j_iload C dX2_lost_89 rfl ?_
    refine j_icmp_gt C dX2_lost_91 (tgt := 143) (by decide) (fun c => ?_) (fun c => ?_)
    · replace h := ip c h
      refine j_iincN C h dX2_lost_143 rfl rfl (by decide) rfl (fun x1 h => ?_)
      refine j_goto C dX2_lost_146 (tgt := 75) (by decide) ?_
      exact j_sub (hk75 _ _ _ h) ⟨rfl, ⟨rfl, ⟨rfl, ⟨rfl, ⟨rfl, ⟨rfl, trivial⟩⟩⟩⟩⟩⟩
    replace h := im c h
    refine j_iload_n C dX2_lost_94 rfl rfl ?_
    refine j_iconst C (v := (-1)) dX2_lost_95 rfl ?_
    refine j_icmp_eq C dX2_lost_96 (tgt := 105) (by decide) (fun c => ?_) (fun c => ?_)
    · replace h := ip c h
      exact j_sub (wm_lost_b105 hκ N C _ _ _ _ _ _ _ _ (fun _ _ _ h => ih _ _ _ h) hk75 _ h) ⟨rfl, ⟨rfl, ⟨rfl, ⟨rfl, ⟨rfl, ⟨rfl, ⟨rfl, trivial⟩⟩⟩⟩⟩⟩⟩
    replace h := im c h
    refine j_iload_n C dX2_lost_99 rfl rfl ?_
    refine j_iload C dX2_lost_100 rfl ?_
    refine j_icmp_ne C dX2_lost_102 (tgt := 137) (by decide) (fun c => ?_) (fun c => ?_)
    · replace h := im c h
      refine j_iincN C h dX2_lost_137 rfl rfl (by decide) rfl (fun x2 h => ?_)
      refine j_goto C dX2_lost_140 (tgt := 87) (by decide) ?_
      exact j_sub (ih _ _ _ h) ⟨rfl, ⟨rfl, ⟨rfl, ⟨rfl, ⟨rfl, ⟨rfl, ⟨rfl, trivial⟩⟩⟩⟩⟩⟩⟩
    replace h := ip c h
    exact j_sub (wm_lost_b105 hκ N C _ _ _ _ _ _ _ _ (fun _ _ _ h => ih _ _ _ h) hk75 _ h) ⟨rfl, ⟨rfl, ⟨rfl, ⟨rfl, ⟨rfl, ⟨rfl, ⟨rfl, trivial⟩⟩⟩⟩⟩⟩⟩
def m_lost_b75 (N : Nat) (l2 : Int32) (l3 : Int32) (l4 : Int32) : Nat → MS → Int32 → Int32 → Option (Int32 × MS)
  | 0, _, _, _ => none
  | n + 1, T, l6, l7 =>
    (if (T.1 0) ≤ l7 then
    some (l6, T)
    else
    m_lost_b87 N l2 l3 l4 l7 (fun t y6 y7 => m_lost_b75 N l2 l3 l4 n t y6 y7) N T l6 l3)
theorem wm_lost_b75 {κ : jK} (hκ : jStd κ) (N : Nat) {Γ : jG} (C : jC κ Γ cX2_lost 9 RX2 (some .int)) {G : Nat → Nat} (l2 : Int32) (l3 : Int32) (l4 : Int32) {v : Int32} {T' : MS} : ∀ (n : Nat) (T : MS) (l6 : Int32) (l7 : Int32), m_lost_b75 N l2 l3 l4 n T l6 l7 = some (v, T') → J κ Γ (5, 0, 0, (fun u w' => u = some (.int v) ∧ w' = wM κ G T')) 9 (wM κ G T) 0 0 75 [some (.ref (G 0)), none, some (.int l2), some (.int l3), some (.int l4), none, some (.int l6), some (.int l7), none] [] := by
  intro n
  induction n with
  | zero => intro _ _ _ h; cases h
  | succ n ih =>
    intro T l6 l7 h
    rw [m_lost_b75] at h
    refine j_iload C dX2_lost_75 rfl ?_
    refine j_aload_n C dX2_lost_77 rfl rfl ?_
    refine jm_geti hκ C 0 (by decide) rfl q1637 dX2_lost_78 ?_
    refine j_icmp_ge C dX2_lost_81 (tgt := 149) (by decide) (fun c => ?_) (fun c => ?_)
    · replace h := ip c h
      refine j_iload C dX2_lost_149 rfl ?_
      obtain ⟨rfl, rfl⟩ := sp2 h
      exact j_iret C dX2_lost_151 (Nat.zero_le _) (Nat.zero_le _) ⟨rfl, rfl⟩
    replace h := im c h
    refine j_iload_n C dX2_lost_84 rfl rfl ?_
    refine j_istore C dX2_lost_85 (by decide) rfl ?_
    exact j_sub (wm_lost_b87 hκ N C _ _ _ _ _ (fun _ _ _ h => ih _ _ _ h) N _ _ _ h) ⟨rfl, ⟨rfl, ⟨rfl, ⟨rfl, ⟨rfl, ⟨rfl, ⟨rfl, trivial⟩⟩⟩⟩⟩⟩⟩
def m_lost_b21 (N : Nat) (l1 : Int32) (l2 : Int32) (l3 : Int32) (l4 : Int32) (T : MS) : Option (Int32 × MS) :=
  (m_isMinute l3).bind fun v2 =>
  (if (b2i v2) = 0 then
  some ((-1), T)
  else
  (m_isMinute l4).bind fun v4 =>
  (if (b2i v4) = 0 then
  some ((-1), T)
  else
  (if l3 ≤ l4 then
  (m_noRow T l1 0).bind fun v6 =>
  (if 0 ≤ v6 then
  (m_reads N T l1).bind fun T9 =>
  (m_looks N T9).bind fun T12 =>
  m_lost_b75 N l2 l3 l4 N T12 0 0
  else
  some (v6, T))
  else
  some ((-1), T))))
theorem wm_lost_b21 {κ : jK} (hκ : jStd κ) (N : Nat) {Γ : jG} (C : jC κ Γ cX2_lost 9 RX2 (some .int)) {G : Nat → Nat} (l1 : Int32) (l2 : Int32) (l3 : Int32) (l4 : Int32) {v : Int32} {T' : MS} : ∀ (T : MS), m_lost_b21 N l1 l2 l3 l4 T = some (v, T') → J κ Γ (5, 0, 0, (fun u w' => u = some (.int v) ∧ w' = wM κ G T')) 9 (wM κ G T) 0 0 21 [some (.ref (G 0)), some (.int l1), some (.int l2), some (.int l3), some (.int l4), none, none, none, none] [] := by
  intro T h
  rw [m_lost_b21] at h
  refine j_iload_n C dX2_lost_21 rfl rfl ?_
  obtain ⟨v2, e1, h⟩ := ob h
  refine j_Si hκ.1 C (mt_m_isMinute hκ e1) hG_m_isMinute hy_m_isMinute rfl dX2_lost_22 (jfit.of (Nat.le_of_ble_eq_true rfl) (by decide) (Nat.zero_le _) (Nat.zero_le _) (Nat.le_of_ble_eq_true rfl)) rfl ?_
  refine j_if_eq C dX2_lost_25 (tgt := 42) (by decide) (fun c => ?_) (fun c => ?_)
  · replace h := ip c h
    refine j_iconst C (v := (-1)) dX2_lost_42 rfl ?_
    obtain ⟨rfl, rfl⟩ := sp2 h
    exact j_iret C dX2_lost_43 (Nat.zero_le _) (Nat.zero_le _) ⟨rfl, rfl⟩
  replace h := im c h
  refine j_iload C dX2_lost_28 rfl ?_
  obtain ⟨v4, e3, h⟩ := ob h
  refine j_Si hκ.1 C (mt_m_isMinute hκ e3) hG_m_isMinute hy_m_isMinute rfl dX2_lost_30 (jfit.of (Nat.le_of_ble_eq_true rfl) (by decide) (Nat.zero_le _) (Nat.zero_le _) (Nat.le_of_ble_eq_true rfl)) rfl ?_
  refine j_if_eq C dX2_lost_33 (tgt := 42) (by decide) (fun c => ?_) (fun c => ?_)
  · replace h := ip c h
    refine j_iconst C (v := (-1)) dX2_lost_42 rfl ?_
    obtain ⟨rfl, rfl⟩ := sp2 h
    exact j_iret C dX2_lost_43 (Nat.zero_le _) (Nat.zero_le _) ⟨rfl, rfl⟩
  replace h := im c h
  refine j_iload_n C dX2_lost_36 rfl rfl ?_
  refine j_iload C dX2_lost_37 rfl ?_
  refine j_icmp_le C dX2_lost_39 (tgt := 44) (by decide) (fun c => ?_) (fun c => ?_)
  · replace h := ip c h
    refine j_aload_n C dX2_lost_44 rfl rfl ?_
    refine j_iload_n C dX2_lost_45 rfl rfl ?_
    refine j_iconst C (v := 0) dX2_lost_46 rfl ?_
    obtain ⟨v6, e5, h⟩ := ob h
    refine jm_Vi hκ C (mt_m_noRow hκ G e5) hG_m_noRow hy_m_noRow rfl rfl dX2_lost_47 (jfit.of (Nat.le_of_ble_eq_true rfl) (by decide) (Nat.zero_le _) (Nat.zero_le _) (Nat.le_of_ble_eq_true rfl)) rfl ?_
    refine j_istore C dX2_lost_50 (by decide) rfl ?_
    refine j_iload C dX2_lost_52 rfl ?_
    refine j_if_ge C dX2_lost_54 (tgt := 60) (by decide) (fun c => ?_) (fun c => ?_)
    · replace h := ip c h
      refine j_aload_n C dX2_lost_60 rfl rfl ?_
      refine j_iload_n C dX2_lost_61 rfl rfl ?_
      obtain ⟨T9, e7, h⟩ := ob h
      refine jm_Vv hκ C (mt_m_reads hκ N G e7) hG_m_reads hy_m_reads rfl rfl dX2_lost_62 (jfit.of (Nat.le_of_ble_eq_true rfl) (by decide) (Nat.zero_le _) (Nat.zero_le _) (Nat.le_of_ble_eq_true rfl)) rfl ?_
      refine j_aload_n C dX2_lost_65 rfl rfl ?_
      obtain ⟨T12, e10, h⟩ := ob h
      refine jm_Vv hκ C (mt_m_looks hκ N G e10) hG_m_looks hy_m_looks rfl rfl dX2_lost_66 (jfit.of (Nat.le_of_ble_eq_true rfl) (by decide) (Nat.zero_le _) (Nat.zero_le _) (Nat.le_of_ble_eq_true rfl)) rfl ?_
      refine j_iconst C (v := 0) dX2_lost_69 rfl ?_
      refine j_istore C dX2_lost_70 (by decide) rfl ?_
      refine j_iconst C (v := 0) dX2_lost_72 rfl ?_
      refine j_istore C dX2_lost_73 (by decide) rfl ?_
      exact j_sub (wm_lost_b75 hκ N C _ _ _ N _ _ _ h) ⟨rfl, ⟨rfl, ⟨rfl, ⟨rfl, ⟨rfl, ⟨rfl, trivial⟩⟩⟩⟩⟩⟩
    replace h := im c h
    refine j_iload C dX2_lost_57 rfl ?_
    obtain ⟨rfl, rfl⟩ := sp2 h
    exact j_iret C dX2_lost_59 (Nat.zero_le _) (Nat.zero_le _) ⟨rfl, rfl⟩
  replace h := im c h
  refine j_iconst C (v := (-1)) dX2_lost_42 rfl ?_
  obtain ⟨rfl, rfl⟩ := sp2 h
  exact j_iret C dX2_lost_43 (Nat.zero_le _) (Nat.zero_le _) ⟨rfl, rfl⟩
def m_lost (N : Nat) (T : MS) (p1 : Int32) (p2 : Int32) (p3 : Int32) (p4 : Int32) : Option (Int32 × MS) :=
  (m_isShelf p1).bind fun v2 =>
  (if (b2i v2) = 0 then
  some ((-1), T)
  else
  (if p2 = (-1) then
  m_lost_b21 N p1 p2 p3 p4 T
  else
  (m_isPost T p2.toInt64).bind fun v4 =>
  (if (b2i v4) = 0 then
  some ((-1), T)
  else
  m_lost_b21 N p1 p2 p3 p4 T)))
theorem mt_m_lost {κ : jK} (hκ : jStd κ) (N : Nat) (G : Nat → Nat) {T : MS} {p1 : Int32} {p2 : Int32} {p3 : Int32} {p4 : Int32} {v : Int32} {T' : MS} (h : m_lost N T p1 p2 p3 p4 = some (v, T')) : jM κ yX2_lost (ws_ yX2_lost cX2_lost 9 (some .int)) 5 0 0 [.ref (G 0), .int p1, .int p2, .int p3, .int p4] (wM κ G T) (fun u w' => u = some (.int v) ∧ w' = wM κ G T') := by
  rw [m_lost] at h
  refine jM.of (by decide) rfl (Nat.le_of_ble_eq_true rfl) fun Γ C _ => ?_
  show J κ Γ (5, 0, 0, (fun u w' => u = some (.int v) ∧ w' = wM κ G T')) 9 (wM κ G T) 0 0 0 [some (.ref (G 0)), some (.int p1), some (.int p2), some (.int p3), some (.int p4), none, none, none, none] []
  refine j_iload_n C dX2_lost_0 rfl rfl ?_
  obtain ⟨v2, e1, h⟩ := ob h
  refine j_Si hκ.1 C (mt_m_isShelf hκ e1) hG_m_isShelf hy_m_isShelf rfl dX2_lost_1 (jfit.of (Nat.le_of_ble_eq_true rfl) (by decide) (Nat.zero_le _) (Nat.zero_le _) (Nat.le_of_ble_eq_true rfl)) rfl ?_
  refine j_if_eq C dX2_lost_4 (tgt := 42) (by decide) (fun c => ?_) (fun c => ?_)
  · replace h := ip c h
    refine j_iconst C (v := (-1)) dX2_lost_42 rfl ?_
    obtain ⟨rfl, rfl⟩ := sp2 h
    exact j_iret C dX2_lost_43 (Nat.zero_le _) (Nat.zero_le _) ⟨rfl, rfl⟩
  replace h := im c h
  refine j_iload_n C dX2_lost_7 rfl rfl ?_
  refine j_iconst C (v := (-1)) dX2_lost_8 rfl ?_
  refine j_icmp_eq C dX2_lost_9 (tgt := 21) (by decide) (fun c => ?_) (fun c => ?_)
  · replace h := ip c h
    exact j_sub (wm_lost_b21 hκ N C _ _ _ _ _ h) ⟨rfl, ⟨rfl, ⟨rfl, ⟨rfl, ⟨rfl, trivial⟩⟩⟩⟩⟩
  replace h := im c h
  refine j_aload_n C dX2_lost_12 rfl rfl ?_
  refine j_iload_n C dX2_lost_13 rfl rfl ?_
  refine j_i2l C dX2_lost_14 ?_
  obtain ⟨v4, e3, h⟩ := ob h
  refine jm_Vi hκ C (mt_m_isPost hκ G e3) hG_m_isPost hy_m_isPost rfl rfl dX2_lost_15 (jfit.of (Nat.le_of_ble_eq_true rfl) (by decide) (Nat.zero_le _) (Nat.zero_le _) (Nat.le_of_ble_eq_true rfl)) rfl ?_
  refine j_if_eq C dX2_lost_18 (tgt := 42) (by decide) (fun c => ?_) (fun c => ?_)
  · replace h := ip c h
    refine j_iconst C (v := (-1)) dX2_lost_42 rfl ?_
    obtain ⟨rfl, rfl⟩ := sp2 h
    exact j_iret C dX2_lost_43 (Nat.zero_le _) (Nat.zero_le _) ⟨rfl, rfl⟩
  replace h := im c h
  exact j_sub (wm_lost_b21 hκ N C _ _ _ _ _ h) ⟨rfl, ⟨rfl, ⟨rfl, ⟨rfl, ⟨rfl, trivial⟩⟩⟩⟩⟩
/-! red -/
def m_red_b57 (N : Nat) (l2 : Int32) : Nat → MS → Int32 → Int32 → Option (Int32 × MS)
  | 0, _, _, _ => none
  | n + 1, T, l4, l5 =>
    (if (T.1 46) ≤ l5 then
    some (l4, T)
    else
    chk 4000 l5 (
    (if ((T.2.1 47 l5.toNatClampNeg) / 60) = l2 then
    chk 4000 l5 (
    nm (l4 &&& ((1 <<< ((T.2.1 48 l5.toNatClampNeg) &&& 31)) ^^^ (-1))) fun x4 =>
    nm (l5 + 1) fun x5 =>
    m_red_b57 N l2 n T x4 x5)
    else
    nm (l5 + 1) fun x2 =>
    m_red_b57 N l2 n T l4 x2)))
theorem wm_red_b57 {κ : jK} (hκ : jStd κ) (N : Nat) {Γ : jG} (C : jC κ Γ cX2_red 6 RX2 (some .int)) {G : Nat → Nat} (l2 : Int32) {v : Int32} {T' : MS} : ∀ (n : Nat) (T : MS) (l4 : Int32) (l5 : Int32), m_red_b57 N l2 n T l4 l5 = some (v, T') → J κ Γ (4, 0, 0, (fun u w' => u = some (.int v) ∧ w' = wM κ G T')) 6 (wM κ G T) 0 0 57 [some (.ref (G 0)), none, some (.int l2), none, some (.int l4), some (.int l5)] [] := by
  intro n
  induction n with
  | zero => intro _ _ _ h; cases h
  | succ n ih =>
    intro T l4 l5 h
    rw [m_red_b57] at h
    refine j_iload C dX2_red_57 rfl ?_
    refine j_aload_n C dX2_red_59 rfl rfl ?_
    refine jm_geti hκ C 46 (by decide) rfl q1683 dX2_red_60 ?_
    refine j_icmp_ge C dX2_red_63 (tgt := 102) (by decide) (fun c => ?_) (fun c => ?_)
    · replace h := ip c h
      refine j_iload C dX2_red_102 rfl ?_
      obtain ⟨rfl, rfl⟩ := sp2 h
      exact j_iret C dX2_red_104 (Nat.zero_le _) (Nat.zero_le _) ⟨rfl, rfl⟩
    replace h := im c h
    refine j_aload_n C dX2_red_66 rfl rfl ?_
    refine jm_geta hκ C 47 (by decide) rfl q1684 dX2_red_67 ?_
    refine j_iload C dX2_red_70 rfl ?_
    obtain ⟨b1, h⟩ := chk_some h
    refine jm_iald hκ C 47 rfl b1 dX2_red_72 ?_
    refine j_bipush C (v := 60) dX2_red_73 rfl ?_
    refine j_idiv C dX2_red_75 (by decide) ?_
    refine j_iload_n C dX2_red_76 rfl rfl ?_
    refine j_icmp_ne C dX2_red_77 (tgt := 96) (by decide) (fun c => ?_) (fun c => ?_)
    · replace h := im c h
      refine j_iincN C h dX2_red_96 rfl rfl (by decide) rfl (fun x2 h => ?_)
      refine j_goto C dX2_red_99 (tgt := 57) (by decide) ?_
      exact j_sub (ih _ _ _ h) ⟨rfl, ⟨rfl, ⟨rfl, ⟨rfl, trivial⟩⟩⟩⟩
    replace h := ip c h
    refine j_iload C dX2_red_80 rfl ?_
    refine j_iconst C (v := 1) dX2_red_82 rfl ?_
    refine j_aload_n C dX2_red_83 rfl rfl ?_
    refine jm_geta hκ C 48 (by decide) rfl q1685 dX2_red_84 ?_
    refine j_iload C dX2_red_87 rfl ?_
    obtain ⟨b3, h⟩ := chk_some h
    refine jm_iald hκ C 48 rfl b3 dX2_red_89 ?_
    refine j_ishl C dX2_red_90 ?_
    refine j_iconst C (v := (-1)) dX2_red_91 rfl ?_
    refine j_ixor C dX2_red_92 ?_
    refine j_iand C dX2_red_93 ?_
    refine j_nmI h (fun x4 h => ?_)
    refine j_istore C dX2_red_94 (by decide) rfl ?_
    refine j_iincN C h dX2_red_96 rfl rfl (by decide) rfl (fun x5 h => ?_)
    refine j_goto C dX2_red_99 (tgt := 57) (by decide) ?_
    exact j_sub (ih _ _ _ h) ⟨rfl, ⟨rfl, ⟨rfl, ⟨rfl, trivial⟩⟩⟩⟩
def m_red (N : Nat) (T : MS) (p1 : Int32) (p2 : Int32) : Option (Int32 × MS) :=
  (m_isShelf p1).bind fun v2 =>
  (if (b2i v2) = 0 then
  some ((-1), T)
  else
  (m_within p2 0 15).bind fun v4 =>
  (if (b2i v4) = 0 then
  some ((-1), T)
  else
  (m_noRow T p1 0).bind fun v6 =>
  (if 0 ≤ v6 then
  (m_reads N T p1).bind fun T9 =>
  (m_walks N T9 4000).bind fun T12 =>
  nm ((1 <<< ((T12.1 0) &&& 31)) - 1) fun x13 =>
  m_red_b57 N p2 N T12 x13 0
  else
  some (v6, T))))
theorem mt_m_red {κ : jK} (hκ : jStd κ) (N : Nat) (G : Nat → Nat) {T : MS} {p1 : Int32} {p2 : Int32} {v : Int32} {T' : MS} (h : m_red N T p1 p2 = some (v, T')) : jM κ yX2_red (ws_ yX2_red cX2_red 6 (some .int)) 4 0 0 [.ref (G 0), .int p1, .int p2] (wM κ G T) (fun u w' => u = some (.int v) ∧ w' = wM κ G T') := by
  rw [m_red] at h
  refine jM.of (by decide) rfl (Nat.le_of_ble_eq_true rfl) fun Γ C _ => ?_
  show J κ Γ (4, 0, 0, (fun u w' => u = some (.int v) ∧ w' = wM κ G T')) 6 (wM κ G T) 0 0 0 [some (.ref (G 0)), some (.int p1), some (.int p2), none, none, none] []
  refine j_iload_n C dX2_red_0 rfl rfl ?_
  obtain ⟨v2, e1, h⟩ := ob h
  refine j_Si hκ.1 C (mt_m_isShelf hκ e1) hG_m_isShelf hy_m_isShelf rfl dX2_red_1 (jfit.of (Nat.le_of_ble_eq_true rfl) (by decide) (Nat.zero_le _) (Nat.zero_le _) (Nat.le_of_ble_eq_true rfl)) rfl ?_
  refine j_if_eq C dX2_red_4 (tgt := 17) (by decide) (fun c => ?_) (fun c => ?_)
  · replace h := ip c h
    refine j_iconst C (v := (-1)) dX2_red_17 rfl ?_
    obtain ⟨rfl, rfl⟩ := sp2 h
    exact j_iret C dX2_red_18 (Nat.zero_le _) (Nat.zero_le _) ⟨rfl, rfl⟩
  replace h := im c h
  refine j_iload_n C dX2_red_7 rfl rfl ?_
  refine j_iconst C (v := 0) dX2_red_8 rfl ?_
  refine j_bipush C (v := 15) dX2_red_9 rfl ?_
  obtain ⟨v4, e3, h⟩ := ob h
  refine j_Si hκ.1 C (mt_m_within hκ e3) hG_m_within hy_m_within rfl dX2_red_11 (jfit.of (Nat.le_of_ble_eq_true rfl) (by decide) (Nat.zero_le _) (Nat.zero_le _) (Nat.le_of_ble_eq_true rfl)) rfl ?_
  refine j_if_ne C dX2_red_14 (tgt := 19) (by decide) (fun c => ?_) (fun c => ?_)
  · replace h := im c h
    refine j_aload_n C dX2_red_19 rfl rfl ?_
    refine j_iload_n C dX2_red_20 rfl rfl ?_
    refine j_iconst C (v := 0) dX2_red_21 rfl ?_
    obtain ⟨v6, e5, h⟩ := ob h
    refine jm_Vi hκ C (mt_m_noRow hκ G e5) hG_m_noRow hy_m_noRow rfl rfl dX2_red_22 (jfit.of (Nat.le_of_ble_eq_true rfl) (by decide) (Nat.zero_le _) (Nat.zero_le _) (Nat.le_of_ble_eq_true rfl)) rfl ?_
    refine j_istore_n C dX2_red_25 rfl (by decide) rfl ?_
    refine j_iload_n C dX2_red_26 rfl rfl ?_
    refine j_if_ge C dX2_red_27 (tgt := 32) (by decide) (fun c => ?_) (fun c => ?_)
    · replace h := ip c h
      refine j_aload_n C dX2_red_32 rfl rfl ?_
      refine j_iload_n C dX2_red_33 rfl rfl ?_
      obtain ⟨T9, e7, h⟩ := ob h
      refine jm_Vv hκ C (mt_m_reads hκ N G e7) hG_m_reads hy_m_reads rfl rfl dX2_red_34 (jfit.of (Nat.le_of_ble_eq_true rfl) (by decide) (Nat.zero_le _) (Nat.zero_le _) (Nat.le_of_ble_eq_true rfl)) rfl ?_
      refine j_aload_n C dX2_red_37 rfl rfl ?_
      refine j_sipush C (v := 4000) dX2_red_38 rfl ?_
      obtain ⟨T12, e10, h⟩ := ob h
      refine jm_Vv hκ C (mt_m_walks hκ N G e10) hG_m_walks hy_m_walks rfl rfl dX2_red_41 (jfit.of (Nat.le_of_ble_eq_true rfl) (by decide) (Nat.zero_le _) (Nat.zero_le _) (Nat.le_of_ble_eq_true rfl)) rfl ?_
      refine j_iconst C (v := 1) dX2_red_44 rfl ?_
      refine j_aload_n C dX2_red_45 rfl rfl ?_
      refine jm_geti hκ C 0 (by decide) rfl q1637 dX2_red_46 ?_
      refine j_ishl C dX2_red_49 ?_
      refine j_iconst C (v := 1) dX2_red_50 rfl ?_
      refine j_isub C dX2_red_51 ?_
      refine j_nmI h (fun x13 h => ?_)
      refine j_istore C dX2_red_52 (by decide) rfl ?_
      refine j_iconst C (v := 0) dX2_red_54 rfl ?_
      refine j_istore C dX2_red_55 (by decide) rfl ?_
      exact j_sub (wm_red_b57 hκ N C _ N _ _ _ h) ⟨rfl, ⟨rfl, ⟨rfl, ⟨rfl, trivial⟩⟩⟩⟩
    replace h := im c h
    refine j_iload_n C dX2_red_30 rfl rfl ?_
    obtain ⟨rfl, rfl⟩ := sp2 h
    exact j_iret C dX2_red_31 (Nat.zero_le _) (Nat.zero_le _) ⟨rfl, rfl⟩
  replace h := ip c h
  refine j_iconst C (v := (-1)) dX2_red_17 rfl ?_
  obtain ⟨rfl, rfl⟩ := sp2 h
  exact j_iret C dX2_red_18 (Nat.zero_le _) (Nat.zero_le _) ⟨rfl, rfl⟩
/-! gapOf -/
def m_gapOf_b102 (N : Nat) (T : MS) (l1 : Int32) (l2 : Int32) (l3 : Int32) (l4 : Int32) (l5 : Int32) (l6 : Int32) (l7 : Int32) (k41 : Int32 → Int32 → Int32 → Int32 → Int32 → Option Int32) : Option Int32 :=
  chk 20 l7 (
  nz (T.1 44) (
  chk 20 (jrem (l7 + 1) (T.1 44)) (
  (m_minutes T (T.2.1 45 l7.toNatClampNeg) (T.2.1 45 (jrem (l7 + 1) (T.1 44)).toNatClampNeg)).bind fun v5 =>
  nm (l6 + ((T.2.1 5 3) + v5)) fun x6 =>
  nm (l7 + 1) fun x7 =>
  k41 l3 l4 l5 x6 x7)))
theorem wm_gapOf_b102 {κ : jK} (hκ : jStd κ) (N : Nat) {Γ : jG} (C : jC κ Γ cX2_gapOf 8 RX2 (some .int)) {G : Nat → Nat} {T : MS} (l1 : Int32) (l2 : Int32) (l3 : Int32) (l4 : Int32) (l5 : Int32) (l6 : Int32) (l7 : Int32) (k41 : Int32 → Int32 → Int32 → Int32 → Int32 → Option Int32) {v : Int32} (hk41 : ∀ (l3 : Int32) (l4 : Int32) (l5 : Int32) (l6 : Int32) (l7 : Int32), k41 l3 l4 l5 l6 l7 = some v → J κ Γ (4, 0, 0, (fun u w' => u = some (.int v) ∧ w' = wM κ G T)) 8 (wM κ G T) 0 0 41 [some (.ref (G 0)), some (.int l1), some (.int l2), some (.int l3), some (.int l4), some (.int l5), some (.int l6), some (.int l7)] []) : m_gapOf_b102 N T l1 l2 l3 l4 l5 l6 l7 k41 = some v → J κ Γ (4, 0, 0, (fun u w' => u = some (.int v) ∧ w' = wM κ G T)) 8 (wM κ G T) 0 0 102 [some (.ref (G 0)), some (.int l1), some (.int l2), some (.int l3), some (.int l4), some (.int l5), some (.int l6), some (.int l7)] [] := by
  intro  h
  rw [m_gapOf_b102] at h
  refine j_iload C dX2_gapOf_102 rfl ?_
  refine j_aload_n C dX2_gapOf_104 rfl rfl ?_
  refine jm_geta hκ C 5 (by decide) rfl q1642 dX2_gapOf_105 ?_
  refine j_iconst C (v := 3) dX2_gapOf_108 rfl ?_
  refine jm_ialdK hκ C 5 3 rfl rfl (vp_k rfl) dX2_gapOf_109 ?_
  refine j_aload_n C dX2_gapOf_110 rfl rfl ?_
  refine j_aload_n C dX2_gapOf_111 rfl rfl ?_
  refine jm_geta hκ C 45 (by decide) rfl q1682 dX2_gapOf_112 ?_
  refine j_iload C dX2_gapOf_115 rfl ?_
  obtain ⟨b1, h⟩ := chk_some h
  refine jm_iald hκ C 45 rfl b1 dX2_gapOf_117 ?_
  refine j_aload_n C dX2_gapOf_118 rfl rfl ?_
  refine jm_geta hκ C 45 (by decide) rfl q1682 dX2_gapOf_119 ?_
  refine j_iload C dX2_gapOf_122 rfl ?_
  refine j_iconst C (v := 1) dX2_gapOf_124 rfl ?_
  refine j_iadd C dX2_gapOf_125 ?_
  refine j_aload_n C dX2_gapOf_126 rfl rfl ?_
  refine jm_geti hκ C 44 (by decide) rfl q1681 dX2_gapOf_127 ?_
  obtain ⟨z2, h⟩ := nz_some h
  refine j_irem C dX2_gapOf_130 z2 ?_
  obtain ⟨b3, h⟩ := chk_some h
  refine jm_iald hκ C 45 rfl b3 dX2_gapOf_131 ?_
  obtain ⟨v5, e4, h⟩ := ob h
  refine jm_Vi hκ C (mt_m_minutes hκ G e4) hG_m_minutes hy_m_minutes rfl rfl dX2_gapOf_132 (jfit.of (Nat.le_of_ble_eq_true rfl) (by decide) (Nat.zero_le _) (Nat.zero_le _) (Nat.le_of_ble_eq_true rfl)) rfl ?_
  refine j_iadd C dX2_gapOf_135 ?_
  refine j_iadd C dX2_gapOf_136 ?_
  refine j_nmI h (fun x6 h => ?_)
  refine j_istore C dX2_gapOf_137 (by decide) rfl ?_
  refine j_iincN C h dX2_gapOf_139 rfl rfl (by decide) rfl (fun x7 h => ?_)
  refine j_goto C dX2_gapOf_142 (tgt := 41) (by decide) ?_
  exact j_sub (hk41 _ _ _ _ _ h) ⟨rfl, ⟨rfl, ⟨rfl, ⟨rfl, ⟨rfl, ⟨rfl, ⟨rfl, ⟨rfl, trivial⟩⟩⟩⟩⟩⟩⟩⟩
def m_gapOf_b85 (N : Nat) (T : MS) (l1 : Int32) (l2 : Int32) (l4 : Int32) (l6 : Int32) (l7 : Int32) (k41 : Int32 → Int32 → Int32 → Int32 → Int32 → Option Int32) (s1 : Int32) (s2 : Int32) : Option Int32 :=
  nm (jmax s1 s2) fun x1 =>
  (if 0 ≤ l4 then
  m_gapOf_b102 N T l1 l2 x1 l4 l6 l6 l7 k41
  else
  m_gapOf_b102 N T l1 l2 x1 l6 l6 l6 l7 k41)
theorem wm_gapOf_b85 {κ : jK} (hκ : jStd κ) (N : Nat) {Γ : jG} (C : jC κ Γ cX2_gapOf 8 RX2 (some .int)) {G : Nat → Nat} {T : MS} (l1 : Int32) (l2 : Int32) (l4 : Int32) (l6 : Int32) (l7 : Int32) (k41 : Int32 → Int32 → Int32 → Int32 → Int32 → Option Int32) {v : Int32} (hk41 : ∀ (l3 : Int32) (l4 : Int32) (l5 : Int32) (l6 : Int32) (l7 : Int32), k41 l3 l4 l5 l6 l7 = some v → J κ Γ (4, 0, 0, (fun u w' => u = some (.int v) ∧ w' = wM κ G T)) 8 (wM κ G T) 0 0 41 [some (.ref (G 0)), some (.int l1), some (.int l2), some (.int l3), some (.int l4), some (.int l5), some (.int l6), some (.int l7)] []) : ∀ (s1 : Int32) (s2 : Int32), m_gapOf_b85 N T l1 l2 l4 l6 l7 k41 s1 s2 = some v → J κ Γ (4, 0, 0, (fun u w' => u = some (.int v) ∧ w' = wM κ G T)) 8 (wM κ G T) 0 0 85 [some (.ref (G 0)), some (.int l1), some (.int l2), none, some (.int l4), none, some (.int l6), some (.int l7)] [.int s2, .int s1] := by
  intro s1 s2 h
  rw [m_gapOf_b85] at h
  refine j_mmax C dX2_gapOf_85 q1977 q695 q129 q696 (Nat.le_of_ble_eq_true rfl) (Nat.le_of_ble_eq_true rfl) (Nat.zero_le _) (Nat.zero_le _) ?_
  refine j_nmI h (fun x1 h => ?_)
  refine j_istore_n C dX2_gapOf_88 rfl (by decide) rfl ?_
  refine j_iload C dX2_gapOf_89 rfl ?_
  refine j_if_ge C dX2_gapOf_91 (tgt := 98) (by decide) (fun c => ?_) (fun c => ?_)
  · replace h := ip c h
    refine j_iload C dX2_gapOf_98 rfl ?_
    refine j_istore C dX2_gapOf_100 (by decide) rfl ?_
    exact j_sub (wm_gapOf_b102 hκ N C _ _ _ _ _ _ _ _ hk41 h) ⟨rfl, ⟨rfl, ⟨rfl, ⟨rfl, ⟨rfl, ⟨rfl, ⟨rfl, ⟨rfl, trivial⟩⟩⟩⟩⟩⟩⟩⟩
  replace h := im c h
  refine j_iload C dX2_gapOf_94 rfl ?_
  refine j_istore C dX2_gapOf_96 (by decide) rfl ?_
  refine j_iload C dX2_gapOf_98 rfl ?_
  refine j_istore C dX2_gapOf_100 (by decide) rfl ?_
  exact j_sub (wm_gapOf_b102 hκ N C _ _ _ _ _ _ _ _ hk41 h) ⟨rfl, ⟨rfl, ⟨rfl, ⟨rfl, ⟨rfl, ⟨rfl, ⟨rfl, ⟨rfl, trivial⟩⟩⟩⟩⟩⟩⟩⟩
def m_gapOf_b41 (N : Nat) (T : MS) (l1 : Int32) (l2 : Int32) : Nat → Int32 → Int32 → Int32 → Int32 → Int32 → Option Int32
  | 0, _, _, _, _, _ => none
  | n + 1, l3, l4, l5, l6, l7 =>
    (if (T.1 44) ≤ l7 then
    (if l3 = (-2) then
    some l3
    else
    (if l2 = 0 then
    some l3
    else
    some (jmax l3 ((l2 - l5) + l4))))
    else
    chk 20 l7 (
    (if (T.2.1 45 l7.toNatClampNeg) = l1 then
    (if 0 ≤ l5 then
    (if l2 = 0 then
    m_gapOf_b85 N T l1 l2 l4 l6 l7 (fun y3 y4 y5 y6 y7 => m_gapOf_b41 N T l1 l2 n y3 y4 y5 y6 y7) l3 0
    else
    m_gapOf_b85 N T l1 l2 l4 l6 l7 (fun y3 y4 y5 y6 y7 => m_gapOf_b41 N T l1 l2 n y3 y4 y5 y6 y7) l3 (l6 - l5))
    else
    m_gapOf_b85 N T l1 l2 l4 l6 l7 (fun y3 y4 y5 y6 y7 => m_gapOf_b41 N T l1 l2 n y3 y4 y5 y6 y7) l3 l6)
    else
    m_gapOf_b102 N T l1 l2 l3 l4 l5 l6 l7 (fun y3 y4 y5 y6 y7 => m_gapOf_b41 N T l1 l2 n y3 y4 y5 y6 y7))))
theorem wm_gapOf_b41 {κ : jK} (hκ : jStd κ) (N : Nat) {Γ : jG} (C : jC κ Γ cX2_gapOf 8 RX2 (some .int)) {G : Nat → Nat} {T : MS} (l1 : Int32) (l2 : Int32) {v : Int32} : ∀ (n : Nat) (l3 : Int32) (l4 : Int32) (l5 : Int32) (l6 : Int32) (l7 : Int32), m_gapOf_b41 N T l1 l2 n l3 l4 l5 l6 l7 = some v → J κ Γ (4, 0, 0, (fun u w' => u = some (.int v) ∧ w' = wM κ G T)) 8 (wM κ G T) 0 0 41 [some (.ref (G 0)), some (.int l1), some (.int l2), some (.int l3), some (.int l4), some (.int l5), some (.int l6), some (.int l7)] [] := by
  intro n
  induction n with
  | zero => intro _ _ _ _ _ h; cases h
  | succ n ih =>
    intro l3 l4 l5 l6 l7 h
    rw [m_gapOf_b41] at h
    refine j_iload C dX2_gapOf_41 rfl ?_
    refine j_aload_n C dX2_gapOf_43 rfl rfl ?_
    refine jm_geti hκ C 44 (by decide) rfl q1681 dX2_gapOf_44 ?_
    refine j_icmp_ge C dX2_gapOf_47 (tgt := 145) (by decide) (fun c => ?_) (fun c => ?_)
    · replace h := ip c h
      refine j_iload_n C dX2_gapOf_145 rfl rfl ?_
      refine j_bipush C (v := (-2)) dX2_gapOf_146 rfl ?_
      refine j_icmp_eq C dX2_gapOf_148 (tgt := 155) (by decide) (fun c => ?_) (fun c => ?_)
      · replace h := ip c h
        refine j_iload_n C dX2_gapOf_155 rfl rfl ?_
        refine j_goto C dX2_gapOf_156 (tgt := 170) (by decide) ?_
        obtain rfl := sp1 h
        exact j_iret C dX2_gapOf_170 (Nat.zero_le _) (Nat.zero_le _) ⟨rfl, rfl⟩
      replace h := im c h
      refine j_iload_n C dX2_gapOf_151 rfl rfl ?_
      refine j_if_ne C dX2_gapOf_152 (tgt := 159) (by decide) (fun c => ?_) (fun c => ?_)
      · replace h := im c h
        refine j_iload_n C dX2_gapOf_159 rfl rfl ?_
        refine j_iload_n C dX2_gapOf_160 rfl rfl ?_
        refine j_iload C dX2_gapOf_161 rfl ?_
        refine j_isub C dX2_gapOf_163 ?_
        refine j_iload C dX2_gapOf_164 rfl ?_
        refine j_iadd C dX2_gapOf_166 ?_
        refine j_mmax C dX2_gapOf_167 q1977 q695 q129 q696 (Nat.le_of_ble_eq_true rfl) (Nat.le_of_ble_eq_true rfl) (Nat.zero_le _) (Nat.zero_le _) ?_
        obtain rfl := sp1 h
        exact j_iret C dX2_gapOf_170 (Nat.zero_le _) (Nat.zero_le _) ⟨rfl, rfl⟩
      replace h := ip c h
      refine j_iload_n C dX2_gapOf_155 rfl rfl ?_
      refine j_goto C dX2_gapOf_156 (tgt := 170) (by decide) ?_
      obtain rfl := sp1 h
      exact j_iret C dX2_gapOf_170 (Nat.zero_le _) (Nat.zero_le _) ⟨rfl, rfl⟩
    replace h := im c h
    refine j_aload_n C dX2_gapOf_50 rfl rfl ?_
    refine jm_geta hκ C 45 (by decide) rfl q1682 dX2_gapOf_51 ?_
    refine j_iload C dX2_gapOf_54 rfl ?_
    obtain ⟨b1, h⟩ := chk_some h
    refine jm_iald hκ C 45 rfl b1 dX2_gapOf_56 ?_
    refine j_iload_n C dX2_gapOf_57 rfl rfl ?_
    refine j_icmp_ne C dX2_gapOf_58 (tgt := 102) (by decide) (fun c => ?_) (fun c => ?_)
    · replace h := im c h
      exact j_sub (wm_gapOf_b102 hκ N C _ _ _ _ _ _ _ _ (fun _ _ _ _ _ h => ih _ _ _ _ _ h) h) ⟨rfl, ⟨rfl, ⟨rfl, ⟨rfl, ⟨rfl, ⟨rfl, ⟨rfl, ⟨rfl, trivial⟩⟩⟩⟩⟩⟩⟩⟩
    replace h := ip c h
    refine j_iload_n C dX2_gapOf_61 rfl rfl ?_
    refine j_iload C dX2_gapOf_62 rfl ?_
    refine j_if_ge C dX2_gapOf_64 (tgt := 72) (by decide) (fun c => ?_) (fun c => ?_)
    · replace h := ip c h
      refine j_iload_n C dX2_gapOf_72 rfl rfl ?_
      refine j_if_ne C dX2_gapOf_73 (tgt := 80) (by decide) (fun c => ?_) (fun c => ?_)
      · replace h := im c h
        refine j_iload C dX2_gapOf_80 rfl ?_
        refine j_iload C dX2_gapOf_82 rfl ?_
        refine j_isub C dX2_gapOf_84 ?_
        exact j_sub (wm_gapOf_b85 hκ N C _ _ _ _ _ _ (fun _ _ _ _ _ h => ih _ _ _ _ _ h) _ _ h) ⟨rfl, ⟨rfl, ⟨rfl, ⟨rfl, ⟨rfl, ⟨rfl, trivial⟩⟩⟩⟩⟩⟩
      replace h := ip c h
      refine j_iconst C (v := 0) dX2_gapOf_76 rfl ?_
      refine j_goto C dX2_gapOf_77 (tgt := 85) (by decide) ?_
      exact j_sub (wm_gapOf_b85 hκ N C _ _ _ _ _ _ (fun _ _ _ _ _ h => ih _ _ _ _ _ h) _ _ h) ⟨rfl, ⟨rfl, ⟨rfl, ⟨rfl, ⟨rfl, ⟨rfl, trivial⟩⟩⟩⟩⟩⟩
    replace h := im c h
    refine j_iload C dX2_gapOf_67 rfl ?_
    refine j_goto C dX2_gapOf_69 (tgt := 85) (by decide) ?_
    exact j_sub (wm_gapOf_b85 hκ N C _ _ _ _ _ _ (fun _ _ _ _ _ h => ih _ _ _ _ _ h) _ _ h) ⟨rfl, ⟨rfl, ⟨rfl, ⟨rfl, ⟨rfl, ⟨rfl, trivial⟩⟩⟩⟩⟩⟩
def m_gapOf (N : Nat) (T : MS) (p1 : Int32) : Option Int32 :=
  (m_oneRound N T).bind fun v2 =>
  (if (T.1 44) = 0 then
  m_gapOf_b41 N T p1 v2 N (-2) (-1) (-1) 0 0
  else
  (m_minutes T (-1) (T.2.1 45 0)).bind fun v4 =>
  m_gapOf_b41 N T p1 v2 N (-2) (-1) (-1) v4 0)
theorem mt_m_gapOf {κ : jK} (hκ : jStd κ) (N : Nat) (G : Nat → Nat) {T : MS} {p1 : Int32} {v : Int32} (h : m_gapOf N T p1 = some v) : jM κ yX2_gapOf (ws_ yX2_gapOf cX2_gapOf 8 (some .int)) 4 0 0 [.ref (G 0), .int p1] (wM κ G T) (fun u w' => u = some (.int v) ∧ w' = wM κ G T) := by
  rw [m_gapOf] at h
  refine jM.of (by decide) rfl (Nat.le_of_ble_eq_true rfl) fun Γ C _ => ?_
  show J κ Γ (4, 0, 0, (fun u w' => u = some (.int v) ∧ w' = wM κ G T)) 8 (wM κ G T) 0 0 0 [some (.ref (G 0)), some (.int p1), none, none, none, none, none, none] []
  refine j_aload_n C dX2_gapOf_0 rfl rfl ?_
  obtain ⟨v2, e1, h⟩ := ob h
  refine jm_Vi hκ C (mt_m_oneRound hκ N G e1) hG_m_oneRound hy_m_oneRound rfl rfl dX2_gapOf_1 (jfit.of (Nat.le_of_ble_eq_true rfl) (by decide) (Nat.zero_le _) (Nat.zero_le _) (Nat.le_of_ble_eq_true rfl)) rfl ?_
  refine j_istore_n C dX2_gapOf_4 rfl (by decide) rfl ?_
  refine j_bipush C (v := (-2)) dX2_gapOf_5 rfl ?_
  refine j_istore_n C dX2_gapOf_7 rfl (by decide) rfl ?_
  refine j_iconst C (v := (-1)) dX2_gapOf_8 rfl ?_
  refine j_istore C dX2_gapOf_9 (by decide) rfl ?_
  refine j_iconst C (v := (-1)) dX2_gapOf_11 rfl ?_
  refine j_istore C dX2_gapOf_12 (by decide) rfl ?_
  refine j_aload_n C dX2_gapOf_14 rfl rfl ?_
  refine jm_geti hκ C 44 (by decide) rfl q1681 dX2_gapOf_15 ?_
  refine j_if_ne C dX2_gapOf_18 (tgt := 25) (by decide) (fun c => ?_) (fun c => ?_)
  · replace h := im c h
    refine j_aload_n C dX2_gapOf_25 rfl rfl ?_
    refine j_iconst C (v := (-1)) dX2_gapOf_26 rfl ?_
    refine j_aload_n C dX2_gapOf_27 rfl rfl ?_
    refine jm_geta hκ C 45 (by decide) rfl q1682 dX2_gapOf_28 ?_
    refine j_iconst C (v := 0) dX2_gapOf_31 rfl ?_
    refine jm_ialdK hκ C 45 0 rfl rfl (vp_k rfl) dX2_gapOf_32 ?_
    obtain ⟨v4, e3, h⟩ := ob h
    refine jm_Vi hκ C (mt_m_minutes hκ G e3) hG_m_minutes hy_m_minutes rfl rfl dX2_gapOf_33 (jfit.of (Nat.le_of_ble_eq_true rfl) (by decide) (Nat.zero_le _) (Nat.zero_le _) (Nat.le_of_ble_eq_true rfl)) rfl ?_
    refine j_istore C dX2_gapOf_36 (by decide) rfl ?_
    refine j_iconst C (v := 0) dX2_gapOf_38 rfl ?_
    refine j_istore C dX2_gapOf_39 (by decide) rfl ?_
    exact j_sub (wm_gapOf_b41 hκ N C _ _ N _ _ _ _ _ h) ⟨rfl, ⟨rfl, ⟨rfl, ⟨rfl, ⟨rfl, ⟨rfl, ⟨rfl, ⟨rfl, trivial⟩⟩⟩⟩⟩⟩⟩⟩
  replace h := ip c h
  refine j_iconst C (v := 0) dX2_gapOf_21 rfl ?_
  refine j_goto C dX2_gapOf_22 (tgt := 36) (by decide) ?_
  refine j_istore C dX2_gapOf_36 (by decide) rfl ?_
  refine j_iconst C (v := 0) dX2_gapOf_38 rfl ?_
  refine j_istore C dX2_gapOf_39 (by decide) rfl ?_
  exact j_sub (wm_gapOf_b41 hκ N C _ _ N _ _ _ _ _ h) ⟨rfl, ⟨rfl, ⟨rfl, ⟨rfl, ⟨rfl, ⟨rfl, ⟨rfl, ⟨rfl, trivial⟩⟩⟩⟩⟩⟩⟩⟩
/-! gap -/
def m_gap (N : Nat) (T : MS) (p1 : Int32) (p2 : Int32) : Option (Int32 × MS) :=
  (m_isShelf p1).bind fun v2 =>
  (if (b2i v2) = 0 then
  some ((-1), T)
  else
  (m_isPost T p2.toInt64).bind fun v4 =>
  (if (b2i v4) = 0 then
  some ((-1), T)
  else
  (m_noRow T p1 0).bind fun v6 =>
  (if 0 ≤ v6 then
  (m_reads N T p1).bind fun T9 =>
  (m_gapOf N T9 p2).bind fun v11 =>
  some (v11, T9)
  else
  some (v6, T))))
theorem mt_m_gap {κ : jK} (hκ : jStd κ) (N : Nat) (G : Nat → Nat) {T : MS} {p1 : Int32} {p2 : Int32} {v : Int32} {T' : MS} (h : m_gap N T p1 p2 = some (v, T')) : jM κ yX2_gap (ws_ yX2_gap cX2_gap 4 (some .int)) 5 0 0 [.ref (G 0), .int p1, .int p2] (wM κ G T) (fun u w' => u = some (.int v) ∧ w' = wM κ G T') := by
  rw [m_gap] at h
  refine jM.of (by decide) rfl (Nat.le_of_ble_eq_true rfl) fun Γ C _ => ?_
  show J κ Γ (5, 0, 0, (fun u w' => u = some (.int v) ∧ w' = wM κ G T')) 4 (wM κ G T) 0 0 0 [some (.ref (G 0)), some (.int p1), some (.int p2), none] []
  refine j_iload_n C dX2_gap_0 rfl rfl ?_
  obtain ⟨v2, e1, h⟩ := ob h
  refine j_Si hκ.1 C (mt_m_isShelf hκ e1) hG_m_isShelf hy_m_isShelf rfl dX2_gap_1 (jfit.of (Nat.le_of_ble_eq_true rfl) (by decide) (Nat.zero_le _) (Nat.zero_le _) (Nat.le_of_ble_eq_true rfl)) rfl ?_
  refine j_if_eq C dX2_gap_4 (tgt := 16) (by decide) (fun c => ?_) (fun c => ?_)
  · replace h := ip c h
    refine j_iconst C (v := (-1)) dX2_gap_16 rfl ?_
    obtain ⟨rfl, rfl⟩ := sp2 h
    exact j_iret C dX2_gap_17 (Nat.zero_le _) (Nat.zero_le _) ⟨rfl, rfl⟩
  replace h := im c h
  refine j_aload_n C dX2_gap_7 rfl rfl ?_
  refine j_iload_n C dX2_gap_8 rfl rfl ?_
  refine j_i2l C dX2_gap_9 ?_
  obtain ⟨v4, e3, h⟩ := ob h
  refine jm_Vi hκ C (mt_m_isPost hκ G e3) hG_m_isPost hy_m_isPost rfl rfl dX2_gap_10 (jfit.of (Nat.le_of_ble_eq_true rfl) (by decide) (Nat.zero_le _) (Nat.zero_le _) (Nat.le_of_ble_eq_true rfl)) rfl ?_
  refine j_if_ne C dX2_gap_13 (tgt := 18) (by decide) (fun c => ?_) (fun c => ?_)
  · replace h := im c h
    refine j_aload_n C dX2_gap_18 rfl rfl ?_
    refine j_iload_n C dX2_gap_19 rfl rfl ?_
    refine j_iconst C (v := 0) dX2_gap_20 rfl ?_
    obtain ⟨v6, e5, h⟩ := ob h
    refine jm_Vi hκ C (mt_m_noRow hκ G e5) hG_m_noRow hy_m_noRow rfl rfl dX2_gap_21 (jfit.of (Nat.le_of_ble_eq_true rfl) (by decide) (Nat.zero_le _) (Nat.zero_le _) (Nat.le_of_ble_eq_true rfl)) rfl ?_
    refine j_istore_n C dX2_gap_24 rfl (by decide) rfl ?_
    refine j_iload_n C dX2_gap_25 rfl rfl ?_
    refine j_if_ge C dX2_gap_26 (tgt := 31) (by decide) (fun c => ?_) (fun c => ?_)
    · replace h := ip c h
      refine j_aload_n C dX2_gap_31 rfl rfl ?_
      refine j_iload_n C dX2_gap_32 rfl rfl ?_
      obtain ⟨T9, e7, h⟩ := ob h
      refine jm_Vv hκ C (mt_m_reads hκ N G e7) hG_m_reads hy_m_reads rfl rfl dX2_gap_33 (jfit.of (Nat.le_of_ble_eq_true rfl) (by decide) (Nat.zero_le _) (Nat.zero_le _) (Nat.le_of_ble_eq_true rfl)) rfl ?_
      refine j_aload_n C dX2_gap_36 rfl rfl ?_
      refine j_iload_n C dX2_gap_37 rfl rfl ?_
      obtain ⟨v11, e10, h⟩ := ob h
      refine jm_Vi hκ C (mt_m_gapOf hκ N G e10) hG_m_gapOf hy_m_gapOf rfl rfl dX2_gap_38 (jfit.of (Nat.le_of_ble_eq_true rfl) (by decide) (Nat.zero_le _) (Nat.zero_le _) (Nat.le_of_ble_eq_true rfl)) rfl ?_
      obtain ⟨rfl, rfl⟩ := sp2 h
      exact j_iret C dX2_gap_41 (Nat.zero_le _) (Nat.zero_le _) ⟨rfl, rfl⟩
    replace h := im c h
    refine j_iload_n C dX2_gap_29 rfl rfl ?_
    obtain ⟨rfl, rfl⟩ := sp2 h
    exact j_iret C dX2_gap_30 (Nat.zero_le _) (Nat.zero_le _) ⟨rfl, rfl⟩
  replace h := ip c h
  refine j_iconst C (v := (-1)) dX2_gap_16 rfl ?_
  obtain ⟨rfl, rfl⟩ := sp2 h
  exact j_iret C dX2_gap_17 (Nat.zero_le _) (Nat.zero_le _) ⟨rfl, rfl⟩
